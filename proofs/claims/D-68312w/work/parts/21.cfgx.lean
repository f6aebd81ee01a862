/-! the constants of CoreSyntax$Syntax -/
set_option maxRecDepth 100000
def kdX : Nat → Nat := fun k => [2, 2, 2, 0, 2, 2, 2, 2, 2, 2, 3, 2, 2, 2, 2, 2, 2, 0, 0, 0, 0, 0, 1].getD k 9
def flX : List (Nat × Nat × Nat) := [(12, 0, 0), (18, 0, 1), (21, 0, 2), (24, 0, 4), (27, 0, 5), (30, 0, 6), (33, 0, 7), (36, 0, 8), (39, 0, 9), (42, 0, 10), (46, 0, 11), (49, 0, 12), (52, 0, 13), (55, 0, 14), (58, 0, 15), (61, 0, 16), (64, 0, 20), (68, 0, 22), (76, 2, 0), (83, 0, 3), (86, 1, 0), (105, 0, 19), (124, 0, 17), (145, 0, 18), (404, 0, 21)]
def mlX : List (Nat × Nat × Nat × Nat × Bool) := [(72, 0, 1, 3, false), (79, 1, 0, 1, false), (90, 0, 9, 0, true), (94, 0, 12, 0, true), (97, 0, 23, 1, true), (101, 0, 29, 1, true), (111, 0, 17, 1, true), (114, 0, 11, 1, true), (117, 0, 10, 1, true), (120, 0, 16, 2, false), (127, 1, 1, 0, true), (130, 0, 21, 5, true), (134, 0, 56, 3, true), (138, 0, 22, 1, true), (141, 0, 57, 2, true), (148, 0, 25, 1, true), (151, 0, 47, 4, true), (155, 0, 50, 2, true), (158, 0, 59, 3, true), (161, 0, 68, 3, true), (164, 0, 64, 0, true), (167, 0, 65, 2, true), (170, 0, 66, 1, true), (173, 0, 67, 2, true), (176, 0, 61, 4, true), (179, 0, 71, 4, true), (183, 0, 37, 0, true), (190, 1, 2, 2, false), (194, 0, 28, 0, true), (197, 0, 73, 0, true), (200, 0, 33, 1, true), (203, 0, 81, 1, true), (206, 0, 82, 1, false), (210, 0, 54, 0, true), (213, 0, 27, 1, true), (217, 0, 38, 0, true), (220, 0, 53, 1, true), (223, 0, 15, 0, false), (226, 0, 55, 0, true), (229, 0, 58, 1, true), (232, 0, 60, 1, true), (235, 0, 62, 1, true), (238, 0, 24, 1, false), (241, 0, 63, 3, true), (244, 0, 26, 0, true), (247, 0, 31, 0, true), (251, 0, 74, 0, true), (254, 0, 80, 0, true), (257, 0, 32, 2, true), (261, 0, 75, 0, true), (264, 0, 76, 0, true), (267, 0, 51, 1, true), (270, 0, 69, 1, true), (273, 0, 77, 0, true), (276, 0, 36, 1, true), (279, 0, 42, 5, false), (283, 0, 52, 1, true), (286, 0, 70, 3, true), (290, 0, 78, 0, true), (293, 0, 79, 1, false), (296, 0, 83, 1, true), (299, 0, 48, 3, true), (305, 0, 30, 0, true), (308, 0, 72, 0, true), (311, 0, 34, 0, true), (314, 0, 35, 1, false), (317, 0, 39, 0, true), (320, 0, 40, 0, true), (323, 0, 46, 0, true), (326, 0, 20, 0, true), (329, 0, 41, 0, true), (332, 0, 44, 0, true), (335, 0, 45, 2, true), (338, 0, 13, 0, true), (341, 0, 14, 0, false), (344, 0, 18, 1, true), (347, 0, 84, 1, true), (350, 0, 90, 0, true), (353, 0, 92, 1, true), (356, 0, 98, 1, true), (359, 0, 99, 0, true), (362, 0, 100, 1, true), (365, 0, 103, 0, true), (368, 0, 104, 1, false), (371, 0, 19, 1, true), (374, 0, 91, 0, true), (377, 0, 95, 0, true), (380, 0, 96, 0, true), (383, 0, 94, 0, true), (386, 0, 93, 3, true), (389, 0, 97, 0, true), (392, 0, 101, 2, false), (395, 0, 102, 2, false), (398, 0, 85, 0, true), (401, 0, 86, 0, false), (407, 0, 89, 3, true), (410, 0, 87, 1, false), (413, 0, 88, 0, true), (416, 0, 7, 1, false), (419, 0, 8, 0, true), (422, 0, 105, 1, false), (425, 0, 5, 0, true), (428, 0, 112, 1, false), (434, 0, 108, 2, true), (437, 0, 106, 2, true), (440, 0, 109, 1, false), (443, 0, 110, 2, false), (446, 0, 111, 1, false), (449, 0, 117, 1, true)]
def slX : List (Nat × Nat × Nat × Bool) := [(186, 43, 2, true), (302, 49, 1, true), (431, 107, 1, true)]
def kcX : List (Nat × Int32) := []
def cfX : CF := (kdX, alook flX, alook mlX, alook slX, alook kcX)
def jcX : JC := (RX1, TX1, RX2, TX2, "CoreSyntax", 86, 76)
theorem x_n12 : cfX.2.1 12 = some (0, 0) := rfl
theorem x_n18 : cfX.2.1 18 = some (0, 1) := rfl
theorem x_n21 : cfX.2.1 21 = some (0, 2) := rfl
theorem x_n24 : cfX.2.1 24 = some (0, 4) := rfl
theorem x_n27 : cfX.2.1 27 = some (0, 5) := rfl
theorem x_n30 : cfX.2.1 30 = some (0, 6) := rfl
theorem x_n33 : cfX.2.1 33 = some (0, 7) := rfl
theorem x_n36 : cfX.2.1 36 = some (0, 8) := rfl
theorem x_n39 : cfX.2.1 39 = some (0, 9) := rfl
theorem x_n42 : cfX.2.1 42 = some (0, 10) := rfl
theorem x_n46 : cfX.2.1 46 = some (0, 11) := rfl
theorem x_n49 : cfX.2.1 49 = some (0, 12) := rfl
theorem x_n52 : cfX.2.1 52 = some (0, 13) := rfl
theorem x_n55 : cfX.2.1 55 = some (0, 14) := rfl
theorem x_n58 : cfX.2.1 58 = some (0, 15) := rfl
theorem x_n61 : cfX.2.1 61 = some (0, 16) := rfl
theorem x_n64 : cfX.2.1 64 = some (0, 20) := rfl
theorem x_n68 : cfX.2.1 68 = some (0, 22) := rfl
theorem x_n76 : cfX.2.1 76 = some (2, 0) := rfl
theorem x_n83 : cfX.2.1 83 = some (0, 3) := rfl
theorem x_n86 : cfX.2.1 86 = some (1, 0) := rfl
theorem x_n105 : cfX.2.1 105 = some (0, 19) := rfl
theorem x_n124 : cfX.2.1 124 = some (0, 17) := rfl
theorem x_n145 : cfX.2.1 145 = some (0, 18) := rfl
theorem x_n404 : cfX.2.1 404 = some (0, 21) := rfl
theorem x_m72 : cfX.2.2.1 72 = some (0, 1, 3, false) := rfl
theorem x_m79 : cfX.2.2.1 79 = some (1, 0, 1, false) := rfl
theorem x_m90 : cfX.2.2.1 90 = some (0, 9, 0, true) := rfl
theorem x_m94 : cfX.2.2.1 94 = some (0, 12, 0, true) := rfl
theorem x_m97 : cfX.2.2.1 97 = some (0, 23, 1, true) := rfl
theorem x_m101 : cfX.2.2.1 101 = some (0, 29, 1, true) := rfl
theorem x_m111 : cfX.2.2.1 111 = some (0, 17, 1, true) := rfl
theorem x_m114 : cfX.2.2.1 114 = some (0, 11, 1, true) := rfl
theorem x_m117 : cfX.2.2.1 117 = some (0, 10, 1, true) := rfl
theorem x_m120 : cfX.2.2.1 120 = some (0, 16, 2, false) := rfl
theorem x_m127 : cfX.2.2.1 127 = some (1, 1, 0, true) := rfl
theorem x_m130 : cfX.2.2.1 130 = some (0, 21, 5, true) := rfl
theorem x_m134 : cfX.2.2.1 134 = some (0, 56, 3, true) := rfl
theorem x_m138 : cfX.2.2.1 138 = some (0, 22, 1, true) := rfl
theorem x_m141 : cfX.2.2.1 141 = some (0, 57, 2, true) := rfl
theorem x_m148 : cfX.2.2.1 148 = some (0, 25, 1, true) := rfl
theorem x_m151 : cfX.2.2.1 151 = some (0, 47, 4, true) := rfl
theorem x_m155 : cfX.2.2.1 155 = some (0, 50, 2, true) := rfl
theorem x_m158 : cfX.2.2.1 158 = some (0, 59, 3, true) := rfl
theorem x_m161 : cfX.2.2.1 161 = some (0, 68, 3, true) := rfl
theorem x_m164 : cfX.2.2.1 164 = some (0, 64, 0, true) := rfl
theorem x_m167 : cfX.2.2.1 167 = some (0, 65, 2, true) := rfl
theorem x_m170 : cfX.2.2.1 170 = some (0, 66, 1, true) := rfl
theorem x_m173 : cfX.2.2.1 173 = some (0, 67, 2, true) := rfl
theorem x_m176 : cfX.2.2.1 176 = some (0, 61, 4, true) := rfl
theorem x_m179 : cfX.2.2.1 179 = some (0, 71, 4, true) := rfl
theorem x_m183 : cfX.2.2.1 183 = some (0, 37, 0, true) := rfl
theorem x_m190 : cfX.2.2.1 190 = some (1, 2, 2, false) := rfl
theorem x_m194 : cfX.2.2.1 194 = some (0, 28, 0, true) := rfl
theorem x_m197 : cfX.2.2.1 197 = some (0, 73, 0, true) := rfl
theorem x_m200 : cfX.2.2.1 200 = some (0, 33, 1, true) := rfl
theorem x_m203 : cfX.2.2.1 203 = some (0, 81, 1, true) := rfl
theorem x_m206 : cfX.2.2.1 206 = some (0, 82, 1, false) := rfl
theorem x_m210 : cfX.2.2.1 210 = some (0, 54, 0, true) := rfl
theorem x_m213 : cfX.2.2.1 213 = some (0, 27, 1, true) := rfl
theorem x_m217 : cfX.2.2.1 217 = some (0, 38, 0, true) := rfl
theorem x_m220 : cfX.2.2.1 220 = some (0, 53, 1, true) := rfl
theorem x_m223 : cfX.2.2.1 223 = some (0, 15, 0, false) := rfl
theorem x_m226 : cfX.2.2.1 226 = some (0, 55, 0, true) := rfl
theorem x_m229 : cfX.2.2.1 229 = some (0, 58, 1, true) := rfl
theorem x_m232 : cfX.2.2.1 232 = some (0, 60, 1, true) := rfl
theorem x_m235 : cfX.2.2.1 235 = some (0, 62, 1, true) := rfl
theorem x_m238 : cfX.2.2.1 238 = some (0, 24, 1, false) := rfl
theorem x_m241 : cfX.2.2.1 241 = some (0, 63, 3, true) := rfl
theorem x_m244 : cfX.2.2.1 244 = some (0, 26, 0, true) := rfl
theorem x_m247 : cfX.2.2.1 247 = some (0, 31, 0, true) := rfl
theorem x_m251 : cfX.2.2.1 251 = some (0, 74, 0, true) := rfl
theorem x_m254 : cfX.2.2.1 254 = some (0, 80, 0, true) := rfl
theorem x_m257 : cfX.2.2.1 257 = some (0, 32, 2, true) := rfl
theorem x_m261 : cfX.2.2.1 261 = some (0, 75, 0, true) := rfl
theorem x_m264 : cfX.2.2.1 264 = some (0, 76, 0, true) := rfl
theorem x_m267 : cfX.2.2.1 267 = some (0, 51, 1, true) := rfl
theorem x_m270 : cfX.2.2.1 270 = some (0, 69, 1, true) := rfl
theorem x_m273 : cfX.2.2.1 273 = some (0, 77, 0, true) := rfl
theorem x_m276 : cfX.2.2.1 276 = some (0, 36, 1, true) := rfl
theorem x_m279 : cfX.2.2.1 279 = some (0, 42, 5, false) := rfl
theorem x_m283 : cfX.2.2.1 283 = some (0, 52, 1, true) := rfl
theorem x_m286 : cfX.2.2.1 286 = some (0, 70, 3, true) := rfl
theorem x_m290 : cfX.2.2.1 290 = some (0, 78, 0, true) := rfl
theorem x_m293 : cfX.2.2.1 293 = some (0, 79, 1, false) := rfl
theorem x_m296 : cfX.2.2.1 296 = some (0, 83, 1, true) := rfl
theorem x_m299 : cfX.2.2.1 299 = some (0, 48, 3, true) := rfl
theorem x_m305 : cfX.2.2.1 305 = some (0, 30, 0, true) := rfl
theorem x_m308 : cfX.2.2.1 308 = some (0, 72, 0, true) := rfl
theorem x_m311 : cfX.2.2.1 311 = some (0, 34, 0, true) := rfl
theorem x_m314 : cfX.2.2.1 314 = some (0, 35, 1, false) := rfl
theorem x_m317 : cfX.2.2.1 317 = some (0, 39, 0, true) := rfl
theorem x_m320 : cfX.2.2.1 320 = some (0, 40, 0, true) := rfl
theorem x_m323 : cfX.2.2.1 323 = some (0, 46, 0, true) := rfl
theorem x_m326 : cfX.2.2.1 326 = some (0, 20, 0, true) := rfl
theorem x_m329 : cfX.2.2.1 329 = some (0, 41, 0, true) := rfl
theorem x_m332 : cfX.2.2.1 332 = some (0, 44, 0, true) := rfl
theorem x_m335 : cfX.2.2.1 335 = some (0, 45, 2, true) := rfl
theorem x_m338 : cfX.2.2.1 338 = some (0, 13, 0, true) := rfl
theorem x_m341 : cfX.2.2.1 341 = some (0, 14, 0, false) := rfl
theorem x_m344 : cfX.2.2.1 344 = some (0, 18, 1, true) := rfl
theorem x_m347 : cfX.2.2.1 347 = some (0, 84, 1, true) := rfl
theorem x_m350 : cfX.2.2.1 350 = some (0, 90, 0, true) := rfl
theorem x_m353 : cfX.2.2.1 353 = some (0, 92, 1, true) := rfl
theorem x_m356 : cfX.2.2.1 356 = some (0, 98, 1, true) := rfl
theorem x_m359 : cfX.2.2.1 359 = some (0, 99, 0, true) := rfl
theorem x_m362 : cfX.2.2.1 362 = some (0, 100, 1, true) := rfl
theorem x_m365 : cfX.2.2.1 365 = some (0, 103, 0, true) := rfl
theorem x_m368 : cfX.2.2.1 368 = some (0, 104, 1, false) := rfl
theorem x_m371 : cfX.2.2.1 371 = some (0, 19, 1, true) := rfl
theorem x_m374 : cfX.2.2.1 374 = some (0, 91, 0, true) := rfl
theorem x_m377 : cfX.2.2.1 377 = some (0, 95, 0, true) := rfl
theorem x_m380 : cfX.2.2.1 380 = some (0, 96, 0, true) := rfl
theorem x_m383 : cfX.2.2.1 383 = some (0, 94, 0, true) := rfl
theorem x_m386 : cfX.2.2.1 386 = some (0, 93, 3, true) := rfl
theorem x_m389 : cfX.2.2.1 389 = some (0, 97, 0, true) := rfl
theorem x_m392 : cfX.2.2.1 392 = some (0, 101, 2, false) := rfl
theorem x_m395 : cfX.2.2.1 395 = some (0, 102, 2, false) := rfl
theorem x_m398 : cfX.2.2.1 398 = some (0, 85, 0, true) := rfl
theorem x_m401 : cfX.2.2.1 401 = some (0, 86, 0, false) := rfl
theorem x_m407 : cfX.2.2.1 407 = some (0, 89, 3, true) := rfl
theorem x_m410 : cfX.2.2.1 410 = some (0, 87, 1, false) := rfl
theorem x_m413 : cfX.2.2.1 413 = some (0, 88, 0, true) := rfl
theorem x_m416 : cfX.2.2.1 416 = some (0, 7, 1, false) := rfl
theorem x_m419 : cfX.2.2.1 419 = some (0, 8, 0, true) := rfl
theorem x_m422 : cfX.2.2.1 422 = some (0, 105, 1, false) := rfl
theorem x_m425 : cfX.2.2.1 425 = some (0, 5, 0, true) := rfl
theorem x_m428 : cfX.2.2.1 428 = some (0, 112, 1, false) := rfl
theorem x_m434 : cfX.2.2.1 434 = some (0, 108, 2, true) := rfl
theorem x_m437 : cfX.2.2.1 437 = some (0, 106, 2, true) := rfl
theorem x_m440 : cfX.2.2.1 440 = some (0, 109, 1, false) := rfl
theorem x_m443 : cfX.2.2.1 443 = some (0, 110, 2, false) := rfl
theorem x_m446 : cfX.2.2.1 446 = some (0, 111, 1, false) := rfl
theorem x_m449 : cfX.2.2.1 449 = some (0, 117, 1, true) := rfl
theorem x_s186 : cfX.2.2.2.1 186 = some (43, 2, true) := rfl
theorem x_s302 : cfX.2.2.2.1 302 = some (49, 1, true) := rfl
theorem x_s431 : cfX.2.2.2.1 431 = some (107, 1, true) := rfl
theorem x_r0 : cfX.1 0 = 2 ∧ 0 < 23 := ⟨rfl, by decide⟩
theorem x_r1 : cfX.1 1 = 2 ∧ 1 < 23 := ⟨rfl, by decide⟩
theorem x_r2 : cfX.1 2 = 2 ∧ 2 < 23 := ⟨rfl, by decide⟩
theorem x_i3 : cfX.1 3 ≤ 1 := by decide
theorem x_z3 : cfX.1 3 = 0 := rfl
theorem x_r4 : cfX.1 4 = 2 ∧ 4 < 23 := ⟨rfl, by decide⟩
theorem x_r5 : cfX.1 5 = 2 ∧ 5 < 23 := ⟨rfl, by decide⟩
theorem x_r6 : cfX.1 6 = 2 ∧ 6 < 23 := ⟨rfl, by decide⟩
theorem x_r7 : cfX.1 7 = 2 ∧ 7 < 23 := ⟨rfl, by decide⟩
theorem x_r8 : cfX.1 8 = 2 ∧ 8 < 23 := ⟨rfl, by decide⟩
theorem x_r9 : cfX.1 9 = 2 ∧ 9 < 23 := ⟨rfl, by decide⟩
theorem x_a10 : cfX.1 10 = 3 ∧ 10 < 23 := ⟨rfl, by decide⟩
theorem x_r11 : cfX.1 11 = 2 ∧ 11 < 23 := ⟨rfl, by decide⟩
theorem x_r12 : cfX.1 12 = 2 ∧ 12 < 23 := ⟨rfl, by decide⟩
theorem x_r13 : cfX.1 13 = 2 ∧ 13 < 23 := ⟨rfl, by decide⟩
theorem x_r14 : cfX.1 14 = 2 ∧ 14 < 23 := ⟨rfl, by decide⟩
theorem x_r15 : cfX.1 15 = 2 ∧ 15 < 23 := ⟨rfl, by decide⟩
theorem x_r16 : cfX.1 16 = 2 ∧ 16 < 23 := ⟨rfl, by decide⟩
theorem x_i17 : cfX.1 17 ≤ 1 := by decide
theorem x_z17 : cfX.1 17 = 0 := rfl
theorem x_i18 : cfX.1 18 ≤ 1 := by decide
theorem x_z18 : cfX.1 18 = 0 := rfl
theorem x_i19 : cfX.1 19 ≤ 1 := by decide
theorem x_z19 : cfX.1 19 = 0 := rfl
theorem x_i20 : cfX.1 20 ≤ 1 := by decide
theorem x_z20 : cfX.1 20 = 0 := rfl
theorem x_i21 : cfX.1 21 ≤ 1 := by decide
theorem x_z21 : cfX.1 21 = 0 := rfl
theorem x_i22 : cfX.1 22 ≤ 1 := by decide
theorem x_b22 : cfX.1 22 = 1 := rfl
theorem flX_ok : ∀ e ∈ flX, FLP jcX e := List.forall_mem_cons.mpr ⟨⟨fun _ => ⟨by decide, q243⟩, fun h => (by cases h), fun h => (by cases h)⟩, List.forall_mem_cons.mpr ⟨⟨fun _ => ⟨by decide, q245⟩, fun h => (by cases h), fun h => (by cases h)⟩, List.forall_mem_cons.mpr ⟨⟨fun _ => ⟨by decide, q246⟩, fun h => (by cases h), fun h => (by cases h)⟩, List.forall_mem_cons.mpr ⟨⟨fun _ => ⟨by decide, q248⟩, fun h => (by cases h), fun h => (by cases h)⟩, List.forall_mem_cons.mpr ⟨⟨fun _ => ⟨by decide, q249⟩, fun h => (by cases h), fun h => (by cases h)⟩, List.forall_mem_cons.mpr ⟨⟨fun _ => ⟨by decide, q250⟩, fun h => (by cases h), fun h => (by cases h)⟩, List.forall_mem_cons.mpr ⟨⟨fun _ => ⟨by decide, q251⟩, fun h => (by cases h), fun h => (by cases h)⟩, List.forall_mem_cons.mpr ⟨⟨fun _ => ⟨by decide, q252⟩, fun h => (by cases h), fun h => (by cases h)⟩, List.forall_mem_cons.mpr ⟨⟨fun _ => ⟨by decide, q253⟩, fun h => (by cases h), fun h => (by cases h)⟩, List.forall_mem_cons.mpr ⟨⟨fun _ => ⟨by decide, q254⟩, fun h => (by cases h), fun h => (by cases h)⟩, List.forall_mem_cons.mpr ⟨⟨fun _ => ⟨by decide, q256⟩, fun h => (by cases h), fun h => (by cases h)⟩, List.forall_mem_cons.mpr ⟨⟨fun _ => ⟨by decide, q257⟩, fun h => (by cases h), fun h => (by cases h)⟩, List.forall_mem_cons.mpr ⟨⟨fun _ => ⟨by decide, q258⟩, fun h => (by cases h), fun h => (by cases h)⟩, List.forall_mem_cons.mpr ⟨⟨fun _ => ⟨by decide, q259⟩, fun h => (by cases h), fun h => (by cases h)⟩, List.forall_mem_cons.mpr ⟨⟨fun _ => ⟨by decide, q260⟩, fun h => (by cases h), fun h => (by cases h)⟩, List.forall_mem_cons.mpr ⟨⟨fun _ => ⟨by decide, q261⟩, fun h => (by cases h), fun h => (by cases h)⟩, List.forall_mem_cons.mpr ⟨⟨fun _ => ⟨by decide, q267⟩, fun h => (by cases h), fun h => (by cases h)⟩, List.forall_mem_cons.mpr ⟨⟨fun _ => ⟨by decide, q270⟩, fun h => (by cases h), fun h => (by cases h)⟩, List.forall_mem_cons.mpr ⟨⟨fun h => (by cases h), fun h => (by cases h), fun _ => rfl⟩, List.forall_mem_cons.mpr ⟨⟨fun _ => ⟨by decide, q247⟩, fun h => (by cases h), fun h => (by cases h)⟩, List.forall_mem_cons.mpr ⟨⟨fun h => (by cases h), fun _ => rfl, fun h => (by cases h)⟩, List.forall_mem_cons.mpr ⟨⟨fun _ => ⟨by decide, q266⟩, fun h => (by cases h), fun h => (by cases h)⟩, List.forall_mem_cons.mpr ⟨⟨fun _ => ⟨by decide, q262⟩, fun h => (by cases h), fun h => (by cases h)⟩, List.forall_mem_cons.mpr ⟨⟨fun _ => ⟨by decide, q264⟩, fun h => (by cases h), fun h => (by cases h)⟩, List.forall_mem_cons.mpr ⟨⟨fun _ => ⟨by decide, q269⟩, fun h => (by cases h), fun h => (by cases h)⟩, fun _ h => absurd h List.not_mem_nil⟩⟩⟩⟩⟩⟩⟩⟩⟩⟩⟩⟩⟩⟩⟩⟩⟩⟩⟩⟩⟩⟩⟩⟩⟩
theorem kcX_ok : ∀ e ∈ kcX, Cond.constant jcX.1 e.1 e.2 ∈ lw_all := fun _ h => absurd h List.not_mem_nil
theorem cfX_ok : CFok jcX cfX tyX1 := by
  refine ⟨fun n k h => (flX_ok _ (alook_mem h)).1 rfl, fun n z h => (flX_ok _ (alook_mem h)).2.1 rfl, fun n z h => (flX_ok _ (alook_mem h)).2.2 rfl, by decide +kernel, by decide +kernel, ⟨in_X1, nmX1, tyX1_ok⟩, ⟨in_X2, nmX2, ⟨tyX2_ok 0 (by decide), tyX2_ok 1 (by decide)⟩, rfl, rfl, rfl, rfl⟩, fun n v h => kcX_ok _ (alook_mem h)⟩
def mtX : List (Nat × MF) := [(1, yX1_fix, ws_ yX1_fix cX1_fix 4 none, 4, 3, false, true),
  (2, yX1_isToken, ws_ yX1_isToken cX1_isToken 6 (some .boolean), 6, 3, true, true),
  (3, yX1_isFull, ws_ yX1_isFull cX1_isFull 1 (some .boolean), 1, 0, true, true),
  (4, yX1_add, ws_ yX1_add cX1_add 4 none, 4, 3, false, true),
  (5, yX1_clear, ws_ yX1_clear cX1_clear 2 (some .int), 2, 0, true, true),
  (6, yX1_parse, wsW_ yX1_parse cX1_parse 3 (some .boolean) [(62, 72, 75, 108)], 3, 0, true, true),
  (7, yX1_cut, ws_ yX1_cut cX1_cut 2 none, 2, 1, false, true),
  (8, yX1_program, ws_ yX1_program cX1_program 6 (some .int), 6, 0, true, true),
  (9, yX1_kind, ws_ yX1_kind cX1_kind 1 (some .int), 1, 0, true, true),
  (10, yX1_takes, ws_ yX1_takes cX1_takes 2 (some .boolean), 2, 1, true, true),
  (11, yX1_isSign, ws_ yX1_isSign cX1_isSign 2 (some .boolean), 2, 1, true, true),
  (12, yX1_value, ws_ yX1_value cX1_value 1 (some .int), 1, 0, true, true),
  (13, yX1_beginsDec, ws_ yX1_beginsDec cX1_beginsDec 1 (some .boolean), 1, 0, true, true),
  (14, yX1_dec, ws_ yX1_dec cX1_dec 3 none, 3, 0, false, true),
  (15, yX1_enter, ws_ yX1_enter cX1_enter 1 none, 1, 0, false, true),
  (16, yX1_must, ws_ yX1_must cX1_must 3 none, 3, 2, false, true),
  (17, yX1_fault, ws_ yX1_fault cX1_fault 2 (some .int), 2, 1, true, true),
  (18, yX1_valDec, ws_ yX1_valDec cX1_valDec 9 (some .int), 9, 1, true, true),
  (19, yX1_typeVariables, ws_ yX1_typeVariables cX1_typeVariables 3 (some .int), 3, 1, true, true),
  (20, yX1_typeVariable, ws_ yX1_typeVariable cX1_typeVariable 1 (some .int), 1, 0, true, true),
  (21, yX1_make, ws_ yX1_make cX1_make 6 (some .int), 6, 5, true, true),
  (22, yX1_single, ws_ yX1_single cX1_single 2 (some .int), 2, 1, true, true),
  (23, yX1_kindBehind, ws_ yX1_kindBehind cX1_kindBehind 2 (some .int), 2, 1, true, true),
  (24, yX1_need, ws_ yX1_need cX1_need 2 none, 2, 1, false, true),
  (25, yX1_list, ws_ yX1_list cX1_list 4 (some .int), 4, 1, true, true),
  (26, yX1_pattern, ws_ yX1_pattern cX1_pattern 6 (some .int), 6, 0, true, true),
  (27, yX1_infix, ws_ yX1_infix cX1_infix 5 (some .int), 5, 1, true, true),
  (28, yX1_applied, ws_ yX1_applied cX1_applied 5 (some .int), 5, 0, true, true),
  (29, yX1_isName, ws_ yX1_isName cX1_isName 3 (some .boolean), 3, 1, true, true),
  (30, yX1_atomicPattern, ws_ yX1_atomicPattern cX1_atomicPattern 2 (some .int), 2, 0, true, true),
  (31, yX1_isConstant, ws_ yX1_isConstant cX1_isConstant 1 (some .boolean), 1, 0, true, true),
  (32, yX1_identifier, ws_ yX1_identifier cX1_identifier 7 (some .int), 7, 2, true, true),
  (33, yX1_isOperator, ws_ yX1_isOperator cX1_isOperator 2 (some .boolean), 2, 1, true, true),
  (34, yX1_recordPattern, ws_ yX1_recordPattern cX1_recordPattern 5 (some .int), 5, 0, true, true),
  (35, yX1_fieldPattern, ws_ yX1_fieldPattern cX1_fieldPattern 6 none, 6, 1, false, true),
  (36, yX1_newLabel, ws_ yX1_newLabel cX1_newLabel 5 (some .int), 5, 1, true, true),
  (37, yX1_label, ws_ yX1_label cX1_label 3 (some .int), 3, 0, true, true),
  (38, yX1_type, ws_ yX1_type cX1_type 6 (some .int), 6, 0, true, true),
  (39, yX1_product, ws_ yX1_product cX1_product 3 (some .int), 3, 0, true, true),
  (40, yX1_constructed, ws_ yX1_constructed cX1_constructed 3 (some .int), 3, 0, true, true),
  (41, yX1_recordType, ws_ yX1_recordType cX1_recordType 7 (some .int), 7, 0, true, true),
  (42, yX1_field, ws_ yX1_field cX1_field 7 none, 7, 5, false, true),
  (43, yX1_isBefore, ws_ yX1_isBefore cX1_isBefore 2 (some .boolean), 2, 2, true, false),
  (44, yX1_bracketedType, ws_ yX1_bracketedType cX1_bracketedType 3 (some .int), 3, 0, true, true),
  (45, yX1_tycon, ws_ yX1_tycon cX1_tycon 5 (some .int), 5, 2, true, true),
  (46, yX1_isTycon, ws_ yX1_isTycon cX1_isTycon 1 (some .boolean), 1, 0, true, true),
  (47, yX1_tuple, ws_ yX1_tuple cX1_tuple 6 (some .int), 6, 4, true, true),
  (48, yX1_layer, ws_ yX1_layer cX1_layer 5 (some .int), 5, 3, true, true),
  (49, yX1_isProtected, ws_ yX1_isProtected cX1_isProtected 1 (some .boolean), 1, 1, true, false),
  (50, yX1_variable, ws_ yX1_variable cX1_variable 3 (some .int), 3, 2, true, true),
  (51, yX1_brackets, ws_ yX1_brackets cX1_brackets 6 (some .int), 6, 1, true, true),
  (52, yX1_inner, ws_ yX1_inner cX1_inner 2 (some .int), 2, 1, true, true),
  (53, yX1_exp, ws_ yX1_exp cX1_exp 5 (some .int), 5, 1, true, true),
  (54, yX1_form, ws_ yX1_form cX1_form 4 (some .int), 4, 0, true, true),
  (55, yX1_match, ws_ yX1_match cX1_match 5 (some .int), 5, 0, true, true),
  (56, yX1_rule, ws_ yX1_rule cX1_rule 4 (some .int), 4, 3, true, true),
  (57, yX1_function, ws_ yX1_function cX1_function 3 (some .int), 3, 2, true, true),
  (58, yX1_casing, ws_ yX1_casing cX1_casing 3 (some .int), 3, 1, true, true),
  (59, yX1_apply, ws_ yX1_apply cX1_apply 4 (some .int), 4, 3, true, true),
  (60, yX1_choice, ws_ yX1_choice cX1_choice 4 (some .int), 4, 1, true, true),
  (61, yX1_choose, ws_ yX1_choose cX1_choose 6 (some .int), 6, 4, true, true),
  (62, yX1_looping, ws_ yX1_looping cX1_looping 3 (some .int), 3, 1, true, true),
  (63, yX1_loop, ws_ yX1_loop cX1_loop 12 (some .int), 12, 3, true, true),
  (64, yX1_freshName, ws_ yX1_freshName cX1_freshName 1 (some .int), 1, 0, true, true),
  (65, yX1_name, ws_ yX1_name cX1_name 3 (some .int), 3, 2, true, true),
  (66, yX1_unit, ws_ yX1_unit cX1_unit 2 (some .int), 2, 1, true, true),
  (67, yX1_sequence, ws_ yX1_sequence cX1_sequence 5 (some .int), 5, 2, true, true),
  (68, yX1_lambda, ws_ yX1_lambda cX1_lambda 4 (some .int), 4, 3, true, true),
  (69, yX1_elements, ws_ yX1_elements cX1_elements 5 (some .int), 5, 1, true, true),
  (70, yX1_chain, ws_ yX1_chain cX1_chain 7 (some .int), 7, 3, true, true),
  (71, yX1_pair, ws_ yX1_pair cX1_pair 6 (some .int), 6, 4, true, true),
  (72, yX1_beginsAtomicPattern, ws_ yX1_beginsAtomicPattern cX1_beginsAtomicPattern 2 (some .boolean), 2, 0, true, true),
  (73, yX1_application, ws_ yX1_application cX1_application 3 (some .int), 3, 0, true, true),
  (74, yX1_atom, ws_ yX1_atom cX1_atom 2 (some .int), 2, 0, true, true),
  (75, yX1_recordExp, ws_ yX1_recordExp cX1_recordExp 7 (some .int), 7, 0, true, true),
  (76, yX1_selector, ws_ yX1_selector cX1_selector 5 (some .int), 5, 0, true, true),
  (77, yX1_let, ws_ yX1_let cX1_let 5 (some .int), 5, 0, true, true),
  (78, yX1_decs, ws_ yX1_decs cX1_decs 3 (some .int), 3, 0, true, true),
  (79, yX1_back, ws_ yX1_back cX1_back 2 none, 2, 1, false, true),
  (80, yX1_beginsAtom, ws_ yX1_beginsAtom cX1_beginsAtom 2 (some .boolean), 2, 0, true, true),
  (81, yX1_isFirst, ws_ yX1_isFirst cX1_isFirst 5 (some .boolean), 5, 1, true, true),
  (82, yX1_reduce, ws_ yX1_reduce cX1_reduce 10 none, 10, 1, false, true),
  (83, yX1_isOpAt, ws_ yX1_isOpAt cX1_isOpAt 2 (some .boolean), 2, 1, true, true),
  (84, yX1_functions, ws_ yX1_functions cX1_functions 5 (some .int), 5, 1, true, true),
  (85, yX1_clauses, ws_ yX1_clauses cX1_clauses 14 (some .int), 14, 0, true, true),
  (86, yX1_head, ws_ yX1_head cX1_head 4 none, 4, 0, false, true),
  (87, yX1_arguments, ws_ yX1_arguments cX1_arguments 2 none, 2, 1, false, true),
  (88, yX1_inBrackets, ws_ yX1_inBrackets cX1_inBrackets 6 (some .boolean), 6, 0, true, true),
  (89, yX1_curried, ws_ yX1_curried cX1_curried 9 (some .int), 9, 3, true, true),
  (90, yX1_typeBindings, ws_ yX1_typeBindings cX1_typeBindings 7 (some .int), 7, 0, true, true),
  (91, yX1_shortTycon, ws_ yX1_shortTycon cX1_shortTycon 1 (some .int), 1, 0, true, true),
  (92, yX1_datatype, ws_ yX1_datatype cX1_datatype 7 (some .int), 7, 1, true, true),
  (93, yX1_dataBindings, ws_ yX1_dataBindings cX1_dataBindings 8 (some .int), 8, 3, true, true),
  (94, yX1_constructors, ws_ yX1_constructors cX1_constructors 5 (some .int), 5, 0, true, true),
  (95, yX1_newName, ws_ yX1_newName cX1_newName 2 (some .int), 2, 0, true, true),
  (96, yX1_ofType, ws_ yX1_ofType cX1_ofType 1 (some .int), 1, 0, true, true),
  (97, yX1_withTypes, ws_ yX1_withTypes cX1_withTypes 1 (some .int), 1, 0, true, true),
  (98, yX1_abstype, ws_ yX1_abstype cX1_abstype 8 (some .int), 8, 1, true, true),
  (99, yX1_exceptions, ws_ yX1_exceptions cX1_exceptions 6 (some .int), 6, 0, true, true),
  (100, yX1_local, ws_ yX1_local cX1_local 6 (some .int), 6, 1, true, true),
  (101, yX1_forget, ws_ yX1_forget cX1_forget 5 none, 5, 2, false, true),
  (102, yX1_change, ws_ yX1_change cX1_change 3 none, 3, 2, false, true),
  (103, yX1_opened, ws_ yX1_opened cX1_opened 4 (some .int), 4, 0, true, true),
  (104, yX1_directive, ws_ yX1_directive cX1_directive 4 none, 4, 1, false, true),
  (105, yX1_sort, ws_ yX1_sort cX1_sort 7 none, 7, 1, false, true),
  (106, yX1_child, ws_ yX1_child cX1_child 3 (some .int), 3, 2, true, true),
  (107, yX1_children, ws_ yX1_children cX1_children 1 (some .int), 1, 1, true, false),
  (108, yX1_part, ws_ yX1_part cX1_part 3 (some .int), 3, 2, true, true),
  (109, yX1_point, ws_ yX1_point cX1_point 3 none, 3, 1, false, true),
  (110, yX1_exchange, ws_ yX1_exchange cX1_exchange 3 none, 3, 2, false, true),
  (111, yX1_rename, ws_ yX1_rename cX1_rename 6 none, 6, 1, false, true),
  (112, yX1_drop, ws_ yX1_drop cX1_drop 4 none, 4, 1, false, true),
  (113, yX1_nodes, ws_ yX1_nodes cX1_nodes 1 (some .int), 1, 0, true, true),
  (114, yX1_retreat, ws_ yX1_retreat cX1_retreat 2 (some .boolean), 2, 0, true, true),
  (115, yX1_isNode, ws_ yX1_isNode cX1_isNode 2 (some .boolean), 2, 1, true, true),
  (116, yX1_node, ws_ yX1_node cX1_node 3 (some .int), 3, 2, true, true),
  (117, yX1_behind, ws_ yX1_behind cX1_behind 5 (some .int), 5, 1, true, true),
  (118, yX1_same, ws_ yX1_same cX1_same 10 (some .boolean), 10, 2, true, true)]
def miX : Nat → Option MF := alook mtX
theorem mwX_fix : MTP jcX (mtX[0]) := ⟨rfl, by decide, by decide +kernel, fun _ => ⟨q241, qs0⟩, fun h => (by cases h), Or.inl ⟨_, _, q242, rfl⟩⟩
theorem mwX_isToken : MTP jcX (mtX[1]) := ⟨rfl, by decide, by decide +kernel, fun _ => ⟨q328, q329⟩, fun h => (by cases h), Or.inl ⟨_, _, q330, rfl⟩⟩
theorem mwX_isFull : MTP jcX (mtX[2]) := ⟨rfl, by decide, by decide +kernel, fun _ => ⟨q332, q333⟩, fun h => (by cases h), Or.inl ⟨_, _, q334, rfl⟩⟩
theorem mwX_add : MTP jcX (mtX[3]) := ⟨rfl, by decide, by decide +kernel, fun _ => ⟨q336, q337⟩, fun h => (by cases h), Or.inl ⟨_, _, q338, rfl⟩⟩
theorem mwX_clear : MTP jcX (mtX[4]) := ⟨rfl, by decide, by decide +kernel, fun _ => ⟨q351, q352⟩, fun h => (by cases h), Or.inl ⟨_, _, q353, rfl⟩⟩
theorem mwX_parse : MTP jcX (mtX[5]) := ⟨rfl, by decide, by decide +kernel, fun _ => ⟨q359, q360⟩, fun h => (by cases h), Or.inr ⟨_, _, _, q361, rfl⟩⟩
theorem mwX_cut : MTP jcX (mtX[6]) := ⟨rfl, by decide, by decide +kernel, fun _ => ⟨q365, qs1⟩, fun h => (by cases h), Or.inl ⟨_, _, q366, rfl⟩⟩
theorem mwX_program : MTP jcX (mtX[7]) := ⟨rfl, by decide, by decide +kernel, fun _ => ⟨q369, qs2⟩, fun h => (by cases h), Or.inl ⟨_, _, q370, rfl⟩⟩
theorem mwX_kind : MTP jcX (mtX[8]) := ⟨rfl, by decide, by decide +kernel, fun _ => ⟨q373, qs3⟩, fun h => (by cases h), Or.inl ⟨_, _, q374, rfl⟩⟩
theorem mwX_takes : MTP jcX (mtX[9]) := ⟨rfl, by decide, by decide +kernel, fun _ => ⟨q377, qs4⟩, fun h => (by cases h), Or.inl ⟨_, _, q378, rfl⟩⟩
theorem mwX_isSign : MTP jcX (mtX[10]) := ⟨rfl, by decide, by decide +kernel, fun _ => ⟨q381, qs5⟩, fun h => (by cases h), Or.inl ⟨_, _, q382, rfl⟩⟩
theorem mwX_value : MTP jcX (mtX[11]) := ⟨rfl, by decide, by decide +kernel, fun _ => ⟨q385, qs6⟩, fun h => (by cases h), Or.inl ⟨_, _, q386, rfl⟩⟩
theorem mwX_beginsDec : MTP jcX (mtX[12]) := ⟨rfl, by decide, by decide +kernel, fun _ => ⟨q389, qs7⟩, fun h => (by cases h), Or.inl ⟨_, _, q390, rfl⟩⟩
theorem mwX_dec : MTP jcX (mtX[13]) := ⟨rfl, by decide, by decide +kernel, fun _ => ⟨q393, qs8⟩, fun h => (by cases h), Or.inl ⟨_, _, q394, rfl⟩⟩
theorem mwX_enter : MTP jcX (mtX[14]) := ⟨rfl, by decide, by decide +kernel, fun _ => ⟨q397, qs9⟩, fun h => (by cases h), Or.inl ⟨_, _, q398, rfl⟩⟩
theorem mwX_must : MTP jcX (mtX[15]) := ⟨rfl, by decide, by decide +kernel, fun _ => ⟨q401, qs10⟩, fun h => (by cases h), Or.inl ⟨_, _, q402, rfl⟩⟩
theorem mwX_fault : MTP jcX (mtX[16]) := ⟨rfl, by decide, by decide +kernel, fun _ => ⟨q405, qs11⟩, fun h => (by cases h), Or.inl ⟨_, _, q406, rfl⟩⟩
theorem mwX_valDec : MTP jcX (mtX[17]) := ⟨rfl, by decide, by decide +kernel, fun _ => ⟨q469, qs13⟩, fun h => (by cases h), Or.inl ⟨_, _, q470, rfl⟩⟩
theorem mwX_typeVariables : MTP jcX (mtX[18]) := ⟨rfl, by decide, by decide +kernel, fun _ => ⟨q473, qs14⟩, fun h => (by cases h), Or.inl ⟨_, _, q474, rfl⟩⟩
theorem mwX_typeVariable : MTP jcX (mtX[19]) := ⟨rfl, by decide, by decide +kernel, fun _ => ⟨q477, qs15⟩, fun h => (by cases h), Or.inl ⟨_, _, q478, rfl⟩⟩
theorem mwX_make : MTP jcX (mtX[20]) := ⟨rfl, by decide, by decide +kernel, fun _ => ⟨q481, qs16⟩, fun h => (by cases h), Or.inl ⟨_, _, q482, rfl⟩⟩
theorem mwX_single : MTP jcX (mtX[21]) := ⟨rfl, by decide, by decide +kernel, fun _ => ⟨q485, qs17⟩, fun h => (by cases h), Or.inl ⟨_, _, q486, rfl⟩⟩
theorem mwX_kindBehind : MTP jcX (mtX[22]) := ⟨rfl, by decide, by decide +kernel, fun _ => ⟨q489, qs18⟩, fun h => (by cases h), Or.inl ⟨_, _, q490, rfl⟩⟩
theorem mwX_need : MTP jcX (mtX[23]) := ⟨rfl, by decide, by decide +kernel, fun _ => ⟨q493, qs19⟩, fun h => (by cases h), Or.inl ⟨_, _, q494, rfl⟩⟩
theorem mwX_list : MTP jcX (mtX[24]) := ⟨rfl, by decide, by decide +kernel, fun _ => ⟨q497, qs20⟩, fun h => (by cases h), Or.inl ⟨_, _, q498, rfl⟩⟩
theorem mwX_pattern : MTP jcX (mtX[25]) := ⟨rfl, by decide, by decide +kernel, fun _ => ⟨q505, qs21⟩, fun h => (by cases h), Or.inl ⟨_, _, q506, rfl⟩⟩
theorem mwX_infix : MTP jcX (mtX[26]) := ⟨rfl, by decide, by decide +kernel, fun _ => ⟨q509, qs22⟩, fun h => (by cases h), Or.inl ⟨_, _, q510, rfl⟩⟩
theorem mwX_applied : MTP jcX (mtX[27]) := ⟨rfl, by decide, by decide +kernel, fun _ => ⟨q513, qs23⟩, fun h => (by cases h), Or.inl ⟨_, _, q514, rfl⟩⟩
theorem mwX_isName : MTP jcX (mtX[28]) := ⟨rfl, by decide, by decide +kernel, fun _ => ⟨q517, qs24⟩, fun h => (by cases h), Or.inl ⟨_, _, q518, rfl⟩⟩
theorem mwX_atomicPattern : MTP jcX (mtX[29]) := ⟨rfl, by decide, by decide +kernel, fun _ => ⟨q521, qs25⟩, fun h => (by cases h), Or.inl ⟨_, _, q522, rfl⟩⟩
theorem mwX_isConstant : MTP jcX (mtX[30]) := ⟨rfl, by decide, by decide +kernel, fun _ => ⟨q525, qs26⟩, fun h => (by cases h), Or.inl ⟨_, _, q526, rfl⟩⟩
theorem mwX_identifier : MTP jcX (mtX[31]) := ⟨rfl, by decide, by decide +kernel, fun _ => ⟨q529, qs27⟩, fun h => (by cases h), Or.inl ⟨_, _, q530, rfl⟩⟩
theorem mwX_isOperator : MTP jcX (mtX[32]) := ⟨rfl, by decide, by decide +kernel, fun _ => ⟨q533, qs28⟩, fun h => (by cases h), Or.inl ⟨_, _, q534, rfl⟩⟩
theorem mwX_recordPattern : MTP jcX (mtX[33]) := ⟨rfl, by decide, by decide +kernel, fun _ => ⟨q537, qs29⟩, fun h => (by cases h), Or.inl ⟨_, _, q538, rfl⟩⟩
theorem mwX_fieldPattern : MTP jcX (mtX[34]) := ⟨rfl, by decide, by decide +kernel, fun _ => ⟨q541, qs30⟩, fun h => (by cases h), Or.inl ⟨_, _, q542, rfl⟩⟩
theorem mwX_newLabel : MTP jcX (mtX[35]) := ⟨rfl, by decide, by decide +kernel, fun _ => ⟨q545, qs31⟩, fun h => (by cases h), Or.inl ⟨_, _, q546, rfl⟩⟩
theorem mwX_label : MTP jcX (mtX[36]) := ⟨rfl, by decide, by decide +kernel, fun _ => ⟨q549, qs32⟩, fun h => (by cases h), Or.inl ⟨_, _, q550, rfl⟩⟩
theorem mwX_type : MTP jcX (mtX[37]) := ⟨rfl, by decide, by decide +kernel, fun _ => ⟨q553, qs33⟩, fun h => (by cases h), Or.inl ⟨_, _, q554, rfl⟩⟩
theorem mwX_product : MTP jcX (mtX[38]) := ⟨rfl, by decide, by decide +kernel, fun _ => ⟨q557, qs34⟩, fun h => (by cases h), Or.inl ⟨_, _, q558, rfl⟩⟩
theorem mwX_constructed : MTP jcX (mtX[39]) := ⟨rfl, by decide, by decide +kernel, fun _ => ⟨q561, qs35⟩, fun h => (by cases h), Or.inl ⟨_, _, q562, rfl⟩⟩
theorem mwX_recordType : MTP jcX (mtX[40]) := ⟨rfl, by decide, by decide +kernel, fun _ => ⟨q565, qs36⟩, fun h => (by cases h), Or.inl ⟨_, _, q566, rfl⟩⟩
theorem mwX_field : MTP jcX (mtX[41]) := ⟨rfl, by decide, by decide +kernel, fun _ => ⟨q569, qs37⟩, fun h => (by cases h), Or.inl ⟨_, _, q570, rfl⟩⟩
theorem mwX_isBefore : MTP jcX (mtX[42]) := ⟨rfl, by decide, by decide +kernel, fun h => (by cases h), fun _ => q572, Or.inl ⟨_, _, q573, rfl⟩⟩
theorem mwX_bracketedType : MTP jcX (mtX[43]) := ⟨rfl, by decide, by decide +kernel, fun _ => ⟨q580, qs38⟩, fun h => (by cases h), Or.inl ⟨_, _, q581, rfl⟩⟩
theorem mwX_tycon : MTP jcX (mtX[44]) := ⟨rfl, by decide, by decide +kernel, fun _ => ⟨q584, qs39⟩, fun h => (by cases h), Or.inl ⟨_, _, q585, rfl⟩⟩
theorem mwX_isTycon : MTP jcX (mtX[45]) := ⟨rfl, by decide, by decide +kernel, fun _ => ⟨q588, qs40⟩, fun h => (by cases h), Or.inl ⟨_, _, q589, rfl⟩⟩
theorem mwX_tuple : MTP jcX (mtX[46]) := ⟨rfl, by decide, by decide +kernel, fun _ => ⟨q592, qs41⟩, fun h => (by cases h), Or.inl ⟨_, _, q593, rfl⟩⟩
theorem mwX_layer : MTP jcX (mtX[47]) := ⟨rfl, by decide, by decide +kernel, fun _ => ⟨q596, qs42⟩, fun h => (by cases h), Or.inl ⟨_, _, q597, rfl⟩⟩
theorem mwX_isProtected : MTP jcX (mtX[48]) := ⟨rfl, by decide, by decide +kernel, fun h => (by cases h), fun _ => q599, Or.inl ⟨_, _, q600, rfl⟩⟩
theorem mwX_variable : MTP jcX (mtX[49]) := ⟨rfl, by decide, by decide +kernel, fun _ => ⟨q603, qs43⟩, fun h => (by cases h), Or.inl ⟨_, _, q604, rfl⟩⟩
theorem mwX_brackets : MTP jcX (mtX[50]) := ⟨rfl, by decide, by decide +kernel, fun _ => ⟨q607, qs44⟩, fun h => (by cases h), Or.inl ⟨_, _, q608, rfl⟩⟩
theorem mwX_inner : MTP jcX (mtX[51]) := ⟨rfl, by decide, by decide +kernel, fun _ => ⟨q611, qs45⟩, fun h => (by cases h), Or.inl ⟨_, _, q612, rfl⟩⟩
theorem mwX_exp : MTP jcX (mtX[52]) := ⟨rfl, by decide, by decide +kernel, fun _ => ⟨q615, qs46⟩, fun h => (by cases h), Or.inl ⟨_, _, q616, rfl⟩⟩
theorem mwX_form : MTP jcX (mtX[53]) := ⟨rfl, by decide, by decide +kernel, fun _ => ⟨q619, qs47⟩, fun h => (by cases h), Or.inl ⟨_, _, q620, rfl⟩⟩
theorem mwX_match : MTP jcX (mtX[54]) := ⟨rfl, by decide, by decide +kernel, fun _ => ⟨q623, qs48⟩, fun h => (by cases h), Or.inl ⟨_, _, q624, rfl⟩⟩
theorem mwX_rule : MTP jcX (mtX[55]) := ⟨rfl, by decide, by decide +kernel, fun _ => ⟨q627, qs49⟩, fun h => (by cases h), Or.inl ⟨_, _, q628, rfl⟩⟩
theorem mwX_function : MTP jcX (mtX[56]) := ⟨rfl, by decide, by decide +kernel, fun _ => ⟨q631, qs50⟩, fun h => (by cases h), Or.inl ⟨_, _, q632, rfl⟩⟩
theorem mwX_casing : MTP jcX (mtX[57]) := ⟨rfl, by decide, by decide +kernel, fun _ => ⟨q635, qs51⟩, fun h => (by cases h), Or.inl ⟨_, _, q636, rfl⟩⟩
theorem mwX_apply : MTP jcX (mtX[58]) := ⟨rfl, by decide, by decide +kernel, fun _ => ⟨q639, qs52⟩, fun h => (by cases h), Or.inl ⟨_, _, q640, rfl⟩⟩
theorem mwX_choice : MTP jcX (mtX[59]) := ⟨rfl, by decide, by decide +kernel, fun _ => ⟨q643, qs53⟩, fun h => (by cases h), Or.inl ⟨_, _, q644, rfl⟩⟩
theorem mwX_choose : MTP jcX (mtX[60]) := ⟨rfl, by decide, by decide +kernel, fun _ => ⟨q647, qs54⟩, fun h => (by cases h), Or.inl ⟨_, _, q648, rfl⟩⟩
theorem mwX_looping : MTP jcX (mtX[61]) := ⟨rfl, by decide, by decide +kernel, fun _ => ⟨q651, qs55⟩, fun h => (by cases h), Or.inl ⟨_, _, q652, rfl⟩⟩
theorem mwX_loop : MTP jcX (mtX[62]) := ⟨rfl, by decide, by decide +kernel, fun _ => ⟨q655, qs56⟩, fun h => (by cases h), Or.inl ⟨_, _, q656, rfl⟩⟩
theorem mwX_freshName : MTP jcX (mtX[63]) := ⟨rfl, by decide, by decide +kernel, fun _ => ⟨q659, qs57⟩, fun h => (by cases h), Or.inl ⟨_, _, q660, rfl⟩⟩
theorem mwX_name : MTP jcX (mtX[64]) := ⟨rfl, by decide, by decide +kernel, fun _ => ⟨q663, qs58⟩, fun h => (by cases h), Or.inl ⟨_, _, q664, rfl⟩⟩
theorem mwX_unit : MTP jcX (mtX[65]) := ⟨rfl, by decide, by decide +kernel, fun _ => ⟨q667, qs59⟩, fun h => (by cases h), Or.inl ⟨_, _, q668, rfl⟩⟩
theorem mwX_sequence : MTP jcX (mtX[66]) := ⟨rfl, by decide, by decide +kernel, fun _ => ⟨q671, qs60⟩, fun h => (by cases h), Or.inl ⟨_, _, q672, rfl⟩⟩
theorem mwX_lambda : MTP jcX (mtX[67]) := ⟨rfl, by decide, by decide +kernel, fun _ => ⟨q675, qs61⟩, fun h => (by cases h), Or.inl ⟨_, _, q676, rfl⟩⟩
theorem mwX_elements : MTP jcX (mtX[68]) := ⟨rfl, by decide, by decide +kernel, fun _ => ⟨q679, qs62⟩, fun h => (by cases h), Or.inl ⟨_, _, q680, rfl⟩⟩
theorem mwX_chain : MTP jcX (mtX[69]) := ⟨rfl, by decide, by decide +kernel, fun _ => ⟨q683, qs63⟩, fun h => (by cases h), Or.inl ⟨_, _, q684, rfl⟩⟩
theorem mwX_pair : MTP jcX (mtX[70]) := ⟨rfl, by decide, by decide +kernel, fun _ => ⟨q687, qs64⟩, fun h => (by cases h), Or.inl ⟨_, _, q688, rfl⟩⟩
theorem mwX_beginsAtomicPattern : MTP jcX (mtX[71]) := ⟨rfl, by decide, by decide +kernel, fun _ => ⟨q691, qs65⟩, fun h => (by cases h), Or.inl ⟨_, _, q692, rfl⟩⟩
theorem mwX_application : MTP jcX (mtX[72]) := ⟨rfl, by decide, by decide +kernel, fun _ => ⟨q695, qs66⟩, fun h => (by cases h), Or.inl ⟨_, _, q696, rfl⟩⟩
theorem mwX_atom : MTP jcX (mtX[73]) := ⟨rfl, by decide, by decide +kernel, fun _ => ⟨q699, qs67⟩, fun h => (by cases h), Or.inl ⟨_, _, q700, rfl⟩⟩
theorem mwX_recordExp : MTP jcX (mtX[74]) := ⟨rfl, by decide, by decide +kernel, fun _ => ⟨q703, qs68⟩, fun h => (by cases h), Or.inl ⟨_, _, q704, rfl⟩⟩
theorem mwX_selector : MTP jcX (mtX[75]) := ⟨rfl, by decide, by decide +kernel, fun _ => ⟨q707, qs69⟩, fun h => (by cases h), Or.inl ⟨_, _, q708, rfl⟩⟩
theorem mwX_let : MTP jcX (mtX[76]) := ⟨rfl, by decide, by decide +kernel, fun _ => ⟨q711, qs70⟩, fun h => (by cases h), Or.inl ⟨_, _, q712, rfl⟩⟩
theorem mwX_decs : MTP jcX (mtX[77]) := ⟨rfl, by decide, by decide +kernel, fun _ => ⟨q715, qs71⟩, fun h => (by cases h), Or.inl ⟨_, _, q716, rfl⟩⟩
theorem mwX_back : MTP jcX (mtX[78]) := ⟨rfl, by decide, by decide +kernel, fun _ => ⟨q719, qs72⟩, fun h => (by cases h), Or.inl ⟨_, _, q720, rfl⟩⟩
theorem mwX_beginsAtom : MTP jcX (mtX[79]) := ⟨rfl, by decide, by decide +kernel, fun _ => ⟨q723, qs73⟩, fun h => (by cases h), Or.inl ⟨_, _, q724, rfl⟩⟩
theorem mwX_isFirst : MTP jcX (mtX[80]) := ⟨rfl, by decide, by decide +kernel, fun _ => ⟨q727, qs74⟩, fun h => (by cases h), Or.inl ⟨_, _, q728, rfl⟩⟩
theorem mwX_reduce : MTP jcX (mtX[81]) := ⟨rfl, by decide, by decide +kernel, fun _ => ⟨q731, qs75⟩, fun h => (by cases h), Or.inl ⟨_, _, q732, rfl⟩⟩
theorem mwX_isOpAt : MTP jcX (mtX[82]) := ⟨rfl, by decide, by decide +kernel, fun _ => ⟨q735, qs76⟩, fun h => (by cases h), Or.inl ⟨_, _, q736, rfl⟩⟩
theorem mwX_functions : MTP jcX (mtX[83]) := ⟨rfl, by decide, by decide +kernel, fun _ => ⟨q739, qs77⟩, fun h => (by cases h), Or.inl ⟨_, _, q740, rfl⟩⟩
theorem mwX_clauses : MTP jcX (mtX[84]) := ⟨rfl, by decide, by decide +kernel, fun _ => ⟨q743, qs78⟩, fun h => (by cases h), Or.inl ⟨_, _, q744, rfl⟩⟩
theorem mwX_head : MTP jcX (mtX[85]) := ⟨rfl, by decide, by decide +kernel, fun _ => ⟨q747, qs79⟩, fun h => (by cases h), Or.inl ⟨_, _, q748, rfl⟩⟩
theorem mwX_arguments : MTP jcX (mtX[86]) := ⟨rfl, by decide, by decide +kernel, fun _ => ⟨q751, qs80⟩, fun h => (by cases h), Or.inl ⟨_, _, q752, rfl⟩⟩
theorem mwX_inBrackets : MTP jcX (mtX[87]) := ⟨rfl, by decide, by decide +kernel, fun _ => ⟨q755, qs81⟩, fun h => (by cases h), Or.inl ⟨_, _, q756, rfl⟩⟩
theorem mwX_curried : MTP jcX (mtX[88]) := ⟨rfl, by decide, by decide +kernel, fun _ => ⟨q759, qs82⟩, fun h => (by cases h), Or.inl ⟨_, _, q760, rfl⟩⟩
theorem mwX_typeBindings : MTP jcX (mtX[89]) := ⟨rfl, by decide, by decide +kernel, fun _ => ⟨q763, qs83⟩, fun h => (by cases h), Or.inl ⟨_, _, q764, rfl⟩⟩
theorem mwX_shortTycon : MTP jcX (mtX[90]) := ⟨rfl, by decide, by decide +kernel, fun _ => ⟨q767, qs84⟩, fun h => (by cases h), Or.inl ⟨_, _, q768, rfl⟩⟩
theorem mwX_datatype : MTP jcX (mtX[91]) := ⟨rfl, by decide, by decide +kernel, fun _ => ⟨q771, qs85⟩, fun h => (by cases h), Or.inl ⟨_, _, q772, rfl⟩⟩
theorem mwX_dataBindings : MTP jcX (mtX[92]) := ⟨rfl, by decide, by decide +kernel, fun _ => ⟨q775, qs86⟩, fun h => (by cases h), Or.inl ⟨_, _, q776, rfl⟩⟩
theorem mwX_constructors : MTP jcX (mtX[93]) := ⟨rfl, by decide, by decide +kernel, fun _ => ⟨q779, qs87⟩, fun h => (by cases h), Or.inl ⟨_, _, q780, rfl⟩⟩
theorem mwX_newName : MTP jcX (mtX[94]) := ⟨rfl, by decide, by decide +kernel, fun _ => ⟨q783, qs88⟩, fun h => (by cases h), Or.inl ⟨_, _, q784, rfl⟩⟩
theorem mwX_ofType : MTP jcX (mtX[95]) := ⟨rfl, by decide, by decide +kernel, fun _ => ⟨q787, qs89⟩, fun h => (by cases h), Or.inl ⟨_, _, q788, rfl⟩⟩
theorem mwX_withTypes : MTP jcX (mtX[96]) := ⟨rfl, by decide, by decide +kernel, fun _ => ⟨q791, qs90⟩, fun h => (by cases h), Or.inl ⟨_, _, q792, rfl⟩⟩
theorem mwX_abstype : MTP jcX (mtX[97]) := ⟨rfl, by decide, by decide +kernel, fun _ => ⟨q795, qs91⟩, fun h => (by cases h), Or.inl ⟨_, _, q796, rfl⟩⟩
theorem mwX_exceptions : MTP jcX (mtX[98]) := ⟨rfl, by decide, by decide +kernel, fun _ => ⟨q799, qs92⟩, fun h => (by cases h), Or.inl ⟨_, _, q800, rfl⟩⟩
theorem mwX_local : MTP jcX (mtX[99]) := ⟨rfl, by decide, by decide +kernel, fun _ => ⟨q803, qs93⟩, fun h => (by cases h), Or.inl ⟨_, _, q804, rfl⟩⟩
theorem mwX_forget : MTP jcX (mtX[100]) := ⟨rfl, by decide, by decide +kernel, fun _ => ⟨q807, qs94⟩, fun h => (by cases h), Or.inl ⟨_, _, q808, rfl⟩⟩
theorem mwX_change : MTP jcX (mtX[101]) := ⟨rfl, by decide, by decide +kernel, fun _ => ⟨q811, qs95⟩, fun h => (by cases h), Or.inl ⟨_, _, q812, rfl⟩⟩
theorem mwX_opened : MTP jcX (mtX[102]) := ⟨rfl, by decide, by decide +kernel, fun _ => ⟨q815, qs96⟩, fun h => (by cases h), Or.inl ⟨_, _, q816, rfl⟩⟩
theorem mwX_directive : MTP jcX (mtX[103]) := ⟨rfl, by decide, by decide +kernel, fun _ => ⟨q819, qs97⟩, fun h => (by cases h), Or.inl ⟨_, _, q820, rfl⟩⟩
theorem mwX_sort : MTP jcX (mtX[104]) := ⟨rfl, by decide, by decide +kernel, fun _ => ⟨q823, qs98⟩, fun h => (by cases h), Or.inl ⟨_, _, q824, rfl⟩⟩
theorem mwX_child : MTP jcX (mtX[105]) := ⟨rfl, by decide, by decide +kernel, fun _ => ⟨q827, qs99⟩, fun h => (by cases h), Or.inl ⟨_, _, q828, rfl⟩⟩
theorem mwX_children : MTP jcX (mtX[106]) := ⟨rfl, by decide, by decide +kernel, fun h => (by cases h), fun _ => q830, Or.inl ⟨_, _, q831, rfl⟩⟩
theorem mwX_part : MTP jcX (mtX[107]) := ⟨rfl, by decide, by decide +kernel, fun _ => ⟨q834, qs100⟩, fun h => (by cases h), Or.inl ⟨_, _, q835, rfl⟩⟩
theorem mwX_point : MTP jcX (mtX[108]) := ⟨rfl, by decide, by decide +kernel, fun _ => ⟨q838, qs101⟩, fun h => (by cases h), Or.inl ⟨_, _, q839, rfl⟩⟩
theorem mwX_exchange : MTP jcX (mtX[109]) := ⟨rfl, by decide, by decide +kernel, fun _ => ⟨q842, qs102⟩, fun h => (by cases h), Or.inl ⟨_, _, q843, rfl⟩⟩
theorem mwX_rename : MTP jcX (mtX[110]) := ⟨rfl, by decide, by decide +kernel, fun _ => ⟨q846, qs103⟩, fun h => (by cases h), Or.inl ⟨_, _, q847, rfl⟩⟩
theorem mwX_drop : MTP jcX (mtX[111]) := ⟨rfl, by decide, by decide +kernel, fun _ => ⟨q851, qs104⟩, fun h => (by cases h), Or.inl ⟨_, _, q852, rfl⟩⟩
theorem mwX_nodes : MTP jcX (mtX[112]) := ⟨rfl, by decide, by decide +kernel, fun _ => ⟨q854, q855⟩, fun h => (by cases h), Or.inl ⟨_, _, q856, rfl⟩⟩
theorem mwX_retreat : MTP jcX (mtX[113]) := ⟨rfl, by decide, by decide +kernel, fun _ => ⟨q866, q867⟩, fun h => (by cases h), Or.inl ⟨_, _, q868, rfl⟩⟩
theorem mwX_isNode : MTP jcX (mtX[114]) := ⟨rfl, by decide, by decide +kernel, fun _ => ⟨q886, q887⟩, fun h => (by cases h), Or.inl ⟨_, _, q888, rfl⟩⟩
theorem mwX_node : MTP jcX (mtX[115]) := ⟨rfl, by decide, by decide +kernel, fun _ => ⟨q890, q891⟩, fun h => (by cases h), Or.inl ⟨_, _, q892, rfl⟩⟩
theorem mwX_behind : MTP jcX (mtX[116]) := ⟨rfl, by decide, by decide +kernel, fun _ => ⟨q910, q911⟩, fun h => (by cases h), Or.inl ⟨_, _, q912, rfl⟩⟩
theorem mwX_same : MTP jcX (mtX[117]) := ⟨rfl, by decide, by decide +kernel, fun _ => ⟨q918, q919⟩, fun h => (by cases h), Or.inl ⟨_, _, q920, rfl⟩⟩
theorem mtX_ok : ∀ e ∈ mtX, MTP jcX e := List.forall_mem_cons.mpr ⟨mwX_fix, List.forall_mem_cons.mpr ⟨mwX_isToken, List.forall_mem_cons.mpr ⟨mwX_isFull, List.forall_mem_cons.mpr ⟨mwX_add, List.forall_mem_cons.mpr ⟨mwX_clear, List.forall_mem_cons.mpr ⟨mwX_parse, List.forall_mem_cons.mpr ⟨mwX_cut, List.forall_mem_cons.mpr ⟨mwX_program, List.forall_mem_cons.mpr ⟨mwX_kind, List.forall_mem_cons.mpr ⟨mwX_takes, List.forall_mem_cons.mpr ⟨mwX_isSign, List.forall_mem_cons.mpr ⟨mwX_value, List.forall_mem_cons.mpr ⟨mwX_beginsDec, List.forall_mem_cons.mpr ⟨mwX_dec, List.forall_mem_cons.mpr ⟨mwX_enter, List.forall_mem_cons.mpr ⟨mwX_must, List.forall_mem_cons.mpr ⟨mwX_fault, List.forall_mem_cons.mpr ⟨mwX_valDec, List.forall_mem_cons.mpr ⟨mwX_typeVariables, List.forall_mem_cons.mpr ⟨mwX_typeVariable, List.forall_mem_cons.mpr ⟨mwX_make, List.forall_mem_cons.mpr ⟨mwX_single, List.forall_mem_cons.mpr ⟨mwX_kindBehind, List.forall_mem_cons.mpr ⟨mwX_need, List.forall_mem_cons.mpr ⟨mwX_list, List.forall_mem_cons.mpr ⟨mwX_pattern, List.forall_mem_cons.mpr ⟨mwX_infix, List.forall_mem_cons.mpr ⟨mwX_applied, List.forall_mem_cons.mpr ⟨mwX_isName, List.forall_mem_cons.mpr ⟨mwX_atomicPattern, List.forall_mem_cons.mpr ⟨mwX_isConstant, List.forall_mem_cons.mpr ⟨mwX_identifier, List.forall_mem_cons.mpr ⟨mwX_isOperator, List.forall_mem_cons.mpr ⟨mwX_recordPattern, List.forall_mem_cons.mpr ⟨mwX_fieldPattern, List.forall_mem_cons.mpr ⟨mwX_newLabel, List.forall_mem_cons.mpr ⟨mwX_label, List.forall_mem_cons.mpr ⟨mwX_type, List.forall_mem_cons.mpr ⟨mwX_product, List.forall_mem_cons.mpr ⟨mwX_constructed, List.forall_mem_cons.mpr ⟨mwX_recordType, List.forall_mem_cons.mpr ⟨mwX_field, List.forall_mem_cons.mpr ⟨mwX_isBefore, List.forall_mem_cons.mpr ⟨mwX_bracketedType, List.forall_mem_cons.mpr ⟨mwX_tycon, List.forall_mem_cons.mpr ⟨mwX_isTycon, List.forall_mem_cons.mpr ⟨mwX_tuple, List.forall_mem_cons.mpr ⟨mwX_layer, List.forall_mem_cons.mpr ⟨mwX_isProtected, List.forall_mem_cons.mpr ⟨mwX_variable, List.forall_mem_cons.mpr ⟨mwX_brackets, List.forall_mem_cons.mpr ⟨mwX_inner, List.forall_mem_cons.mpr ⟨mwX_exp, List.forall_mem_cons.mpr ⟨mwX_form, List.forall_mem_cons.mpr ⟨mwX_match, List.forall_mem_cons.mpr ⟨mwX_rule, List.forall_mem_cons.mpr ⟨mwX_function, List.forall_mem_cons.mpr ⟨mwX_casing, List.forall_mem_cons.mpr ⟨mwX_apply, List.forall_mem_cons.mpr ⟨mwX_choice, List.forall_mem_cons.mpr ⟨mwX_choose, List.forall_mem_cons.mpr ⟨mwX_looping, List.forall_mem_cons.mpr ⟨mwX_loop, List.forall_mem_cons.mpr ⟨mwX_freshName, List.forall_mem_cons.mpr ⟨mwX_name, List.forall_mem_cons.mpr ⟨mwX_unit, List.forall_mem_cons.mpr ⟨mwX_sequence, List.forall_mem_cons.mpr ⟨mwX_lambda, List.forall_mem_cons.mpr ⟨mwX_elements, List.forall_mem_cons.mpr ⟨mwX_chain, List.forall_mem_cons.mpr ⟨mwX_pair, List.forall_mem_cons.mpr ⟨mwX_beginsAtomicPattern, List.forall_mem_cons.mpr ⟨mwX_application, List.forall_mem_cons.mpr ⟨mwX_atom, List.forall_mem_cons.mpr ⟨mwX_recordExp, List.forall_mem_cons.mpr ⟨mwX_selector, List.forall_mem_cons.mpr ⟨mwX_let, List.forall_mem_cons.mpr ⟨mwX_decs, List.forall_mem_cons.mpr ⟨mwX_back, List.forall_mem_cons.mpr ⟨mwX_beginsAtom, List.forall_mem_cons.mpr ⟨mwX_isFirst, List.forall_mem_cons.mpr ⟨mwX_reduce, List.forall_mem_cons.mpr ⟨mwX_isOpAt, List.forall_mem_cons.mpr ⟨mwX_functions, List.forall_mem_cons.mpr ⟨mwX_clauses, List.forall_mem_cons.mpr ⟨mwX_head, List.forall_mem_cons.mpr ⟨mwX_arguments, List.forall_mem_cons.mpr ⟨mwX_inBrackets, List.forall_mem_cons.mpr ⟨mwX_curried, List.forall_mem_cons.mpr ⟨mwX_typeBindings, List.forall_mem_cons.mpr ⟨mwX_shortTycon, List.forall_mem_cons.mpr ⟨mwX_datatype, List.forall_mem_cons.mpr ⟨mwX_dataBindings, List.forall_mem_cons.mpr ⟨mwX_constructors, List.forall_mem_cons.mpr ⟨mwX_newName, List.forall_mem_cons.mpr ⟨mwX_ofType, List.forall_mem_cons.mpr ⟨mwX_withTypes, List.forall_mem_cons.mpr ⟨mwX_abstype, List.forall_mem_cons.mpr ⟨mwX_exceptions, List.forall_mem_cons.mpr ⟨mwX_local, List.forall_mem_cons.mpr ⟨mwX_forget, List.forall_mem_cons.mpr ⟨mwX_change, List.forall_mem_cons.mpr ⟨mwX_opened, List.forall_mem_cons.mpr ⟨mwX_directive, List.forall_mem_cons.mpr ⟨mwX_sort, List.forall_mem_cons.mpr ⟨mwX_child, List.forall_mem_cons.mpr ⟨mwX_children, List.forall_mem_cons.mpr ⟨mwX_part, List.forall_mem_cons.mpr ⟨mwX_point, List.forall_mem_cons.mpr ⟨mwX_exchange, List.forall_mem_cons.mpr ⟨mwX_rename, List.forall_mem_cons.mpr ⟨mwX_drop, List.forall_mem_cons.mpr ⟨mwX_nodes, List.forall_mem_cons.mpr ⟨mwX_retreat, List.forall_mem_cons.mpr ⟨mwX_isNode, List.forall_mem_cons.mpr ⟨mwX_node, List.forall_mem_cons.mpr ⟨mwX_behind, List.forall_mem_cons.mpr ⟨mwX_same, fun _ h => absurd h List.not_mem_nil⟩⟩⟩⟩⟩⟩⟩⟩⟩⟩⟩⟩⟩⟩⟩⟩⟩⟩⟩⟩⟩⟩⟩⟩⟩⟩⟩⟩⟩⟩⟩⟩⟩⟩⟩⟩⟩⟩⟩⟩⟩⟩⟩⟩⟩⟩⟩⟩⟩⟩⟩⟩⟩⟩⟩⟩⟩⟩⟩⟩⟩⟩⟩⟩⟩⟩⟩⟩⟩⟩⟩⟩⟩⟩⟩⟩⟩⟩⟩⟩⟩⟩⟩⟩⟩⟩⟩⟩⟩⟩⟩⟩⟩⟩⟩⟩⟩⟩⟩⟩⟩⟩⟩⟩⟩⟩⟩⟩⟩⟩⟩⟩⟩⟩⟩⟩⟩⟩
theorem mkX_72 : MLP jcX miX (72, 0, 1, 3, false) := fun _ => ⟨_, _, _, (by rfl), q239⟩
theorem mkX_90 : MLP jcX miX (90, 0, 9, 0, true) := fun _ => ⟨_, _, _, (by rfl), q371⟩
theorem mkX_94 : MLP jcX miX (94, 0, 12, 0, true) := fun _ => ⟨_, _, _, (by rfl), q383⟩
theorem mkX_97 : MLP jcX miX (97, 0, 23, 1, true) := fun _ => ⟨_, _, _, (by rfl), q487⟩
theorem mkX_101 : MLP jcX miX (101, 0, 29, 1, true) := fun _ => ⟨_, _, _, (by rfl), q515⟩
theorem mkX_111 : MLP jcX miX (111, 0, 17, 1, true) := fun _ => ⟨_, _, _, (by rfl), q403⟩
theorem mkX_114 : MLP jcX miX (114, 0, 11, 1, true) := fun _ => ⟨_, _, _, (by rfl), q379⟩
theorem mkX_117 : MLP jcX miX (117, 0, 10, 1, true) := fun _ => ⟨_, _, _, (by rfl), q375⟩
theorem mkX_120 : MLP jcX miX (120, 0, 16, 2, false) := fun _ => ⟨_, _, _, (by rfl), q399⟩
theorem mkX_130 : MLP jcX miX (130, 0, 21, 5, true) := fun _ => ⟨_, _, _, (by rfl), q479⟩
theorem mkX_134 : MLP jcX miX (134, 0, 56, 3, true) := fun _ => ⟨_, _, _, (by rfl), q625⟩
theorem mkX_138 : MLP jcX miX (138, 0, 22, 1, true) := fun _ => ⟨_, _, _, (by rfl), q483⟩
theorem mkX_141 : MLP jcX miX (141, 0, 57, 2, true) := fun _ => ⟨_, _, _, (by rfl), q629⟩
theorem mkX_148 : MLP jcX miX (148, 0, 25, 1, true) := fun _ => ⟨_, _, _, (by rfl), q495⟩
theorem mkX_151 : MLP jcX miX (151, 0, 47, 4, true) := fun _ => ⟨_, _, _, (by rfl), q590⟩
theorem mkX_155 : MLP jcX miX (155, 0, 50, 2, true) := fun _ => ⟨_, _, _, (by rfl), q601⟩
theorem mkX_158 : MLP jcX miX (158, 0, 59, 3, true) := fun _ => ⟨_, _, _, (by rfl), q637⟩
theorem mkX_161 : MLP jcX miX (161, 0, 68, 3, true) := fun _ => ⟨_, _, _, (by rfl), q673⟩
theorem mkX_164 : MLP jcX miX (164, 0, 64, 0, true) := fun _ => ⟨_, _, _, (by rfl), q657⟩
theorem mkX_167 : MLP jcX miX (167, 0, 65, 2, true) := fun _ => ⟨_, _, _, (by rfl), q661⟩
theorem mkX_170 : MLP jcX miX (170, 0, 66, 1, true) := fun _ => ⟨_, _, _, (by rfl), q665⟩
theorem mkX_173 : MLP jcX miX (173, 0, 67, 2, true) := fun _ => ⟨_, _, _, (by rfl), q669⟩
theorem mkX_176 : MLP jcX miX (176, 0, 61, 4, true) := fun _ => ⟨_, _, _, (by rfl), q645⟩
theorem mkX_179 : MLP jcX miX (179, 0, 71, 4, true) := fun _ => ⟨_, _, _, (by rfl), q685⟩
theorem mkX_183 : MLP jcX miX (183, 0, 37, 0, true) := fun _ => ⟨_, _, _, (by rfl), q547⟩
theorem mkX_194 : MLP jcX miX (194, 0, 28, 0, true) := fun _ => ⟨_, _, _, (by rfl), q511⟩
theorem mkX_197 : MLP jcX miX (197, 0, 73, 0, true) := fun _ => ⟨_, _, _, (by rfl), q693⟩
theorem mkX_200 : MLP jcX miX (200, 0, 33, 1, true) := fun _ => ⟨_, _, _, (by rfl), q531⟩
theorem mkX_203 : MLP jcX miX (203, 0, 81, 1, true) := fun _ => ⟨_, _, _, (by rfl), q725⟩
theorem mkX_206 : MLP jcX miX (206, 0, 82, 1, false) := fun _ => ⟨_, _, _, (by rfl), q729⟩
theorem mkX_210 : MLP jcX miX (210, 0, 54, 0, true) := fun _ => ⟨_, _, _, (by rfl), q617⟩
theorem mkX_213 : MLP jcX miX (213, 0, 27, 1, true) := fun _ => ⟨_, _, _, (by rfl), q507⟩
theorem mkX_217 : MLP jcX miX (217, 0, 38, 0, true) := fun _ => ⟨_, _, _, (by rfl), q551⟩
theorem mkX_220 : MLP jcX miX (220, 0, 53, 1, true) := fun _ => ⟨_, _, _, (by rfl), q613⟩
theorem mkX_223 : MLP jcX miX (223, 0, 15, 0, false) := fun _ => ⟨_, _, _, (by rfl), q395⟩
theorem mkX_226 : MLP jcX miX (226, 0, 55, 0, true) := fun _ => ⟨_, _, _, (by rfl), q621⟩
theorem mkX_229 : MLP jcX miX (229, 0, 58, 1, true) := fun _ => ⟨_, _, _, (by rfl), q633⟩
theorem mkX_232 : MLP jcX miX (232, 0, 60, 1, true) := fun _ => ⟨_, _, _, (by rfl), q641⟩
theorem mkX_235 : MLP jcX miX (235, 0, 62, 1, true) := fun _ => ⟨_, _, _, (by rfl), q649⟩
theorem mkX_238 : MLP jcX miX (238, 0, 24, 1, false) := fun _ => ⟨_, _, _, (by rfl), q491⟩
theorem mkX_241 : MLP jcX miX (241, 0, 63, 3, true) := fun _ => ⟨_, _, _, (by rfl), q653⟩
theorem mkX_244 : MLP jcX miX (244, 0, 26, 0, true) := fun _ => ⟨_, _, _, (by rfl), q503⟩
theorem mkX_247 : MLP jcX miX (247, 0, 31, 0, true) := fun _ => ⟨_, _, _, (by rfl), q523⟩
theorem mkX_251 : MLP jcX miX (251, 0, 74, 0, true) := fun _ => ⟨_, _, _, (by rfl), q697⟩
theorem mkX_254 : MLP jcX miX (254, 0, 80, 0, true) := fun _ => ⟨_, _, _, (by rfl), q721⟩
theorem mkX_257 : MLP jcX miX (257, 0, 32, 2, true) := fun _ => ⟨_, _, _, (by rfl), q527⟩
theorem mkX_261 : MLP jcX miX (261, 0, 75, 0, true) := fun _ => ⟨_, _, _, (by rfl), q701⟩
theorem mkX_264 : MLP jcX miX (264, 0, 76, 0, true) := fun _ => ⟨_, _, _, (by rfl), q705⟩
theorem mkX_267 : MLP jcX miX (267, 0, 51, 1, true) := fun _ => ⟨_, _, _, (by rfl), q605⟩
theorem mkX_270 : MLP jcX miX (270, 0, 69, 1, true) := fun _ => ⟨_, _, _, (by rfl), q677⟩
theorem mkX_273 : MLP jcX miX (273, 0, 77, 0, true) := fun _ => ⟨_, _, _, (by rfl), q709⟩
theorem mkX_276 : MLP jcX miX (276, 0, 36, 1, true) := fun _ => ⟨_, _, _, (by rfl), q543⟩
theorem mkX_279 : MLP jcX miX (279, 0, 42, 5, false) := fun _ => ⟨_, _, _, (by rfl), q567⟩
theorem mkX_283 : MLP jcX miX (283, 0, 52, 1, true) := fun _ => ⟨_, _, _, (by rfl), q609⟩
theorem mkX_286 : MLP jcX miX (286, 0, 70, 3, true) := fun _ => ⟨_, _, _, (by rfl), q681⟩
theorem mkX_290 : MLP jcX miX (290, 0, 78, 0, true) := fun _ => ⟨_, _, _, (by rfl), q713⟩
theorem mkX_293 : MLP jcX miX (293, 0, 79, 1, false) := fun _ => ⟨_, _, _, (by rfl), q717⟩
theorem mkX_296 : MLP jcX miX (296, 0, 83, 1, true) := fun _ => ⟨_, _, _, (by rfl), q733⟩
theorem mkX_299 : MLP jcX miX (299, 0, 48, 3, true) := fun _ => ⟨_, _, _, (by rfl), q594⟩
theorem mkX_305 : MLP jcX miX (305, 0, 30, 0, true) := fun _ => ⟨_, _, _, (by rfl), q519⟩
theorem mkX_308 : MLP jcX miX (308, 0, 72, 0, true) := fun _ => ⟨_, _, _, (by rfl), q689⟩
theorem mkX_311 : MLP jcX miX (311, 0, 34, 0, true) := fun _ => ⟨_, _, _, (by rfl), q535⟩
theorem mkX_314 : MLP jcX miX (314, 0, 35, 1, false) := fun _ => ⟨_, _, _, (by rfl), q539⟩
theorem mkX_317 : MLP jcX miX (317, 0, 39, 0, true) := fun _ => ⟨_, _, _, (by rfl), q555⟩
theorem mkX_320 : MLP jcX miX (320, 0, 40, 0, true) := fun _ => ⟨_, _, _, (by rfl), q559⟩
theorem mkX_323 : MLP jcX miX (323, 0, 46, 0, true) := fun _ => ⟨_, _, _, (by rfl), q586⟩
theorem mkX_326 : MLP jcX miX (326, 0, 20, 0, true) := fun _ => ⟨_, _, _, (by rfl), q475⟩
theorem mkX_329 : MLP jcX miX (329, 0, 41, 0, true) := fun _ => ⟨_, _, _, (by rfl), q563⟩
theorem mkX_332 : MLP jcX miX (332, 0, 44, 0, true) := fun _ => ⟨_, _, _, (by rfl), q578⟩
theorem mkX_335 : MLP jcX miX (335, 0, 45, 2, true) := fun _ => ⟨_, _, _, (by rfl), q582⟩
theorem mkX_338 : MLP jcX miX (338, 0, 13, 0, true) := fun _ => ⟨_, _, _, (by rfl), q387⟩
theorem mkX_341 : MLP jcX miX (341, 0, 14, 0, false) := fun _ => ⟨_, _, _, (by rfl), q391⟩
theorem mkX_344 : MLP jcX miX (344, 0, 18, 1, true) := fun _ => ⟨_, _, _, (by rfl), q467⟩
theorem mkX_347 : MLP jcX miX (347, 0, 84, 1, true) := fun _ => ⟨_, _, _, (by rfl), q737⟩
theorem mkX_350 : MLP jcX miX (350, 0, 90, 0, true) := fun _ => ⟨_, _, _, (by rfl), q761⟩
theorem mkX_353 : MLP jcX miX (353, 0, 92, 1, true) := fun _ => ⟨_, _, _, (by rfl), q769⟩
theorem mkX_356 : MLP jcX miX (356, 0, 98, 1, true) := fun _ => ⟨_, _, _, (by rfl), q793⟩
theorem mkX_359 : MLP jcX miX (359, 0, 99, 0, true) := fun _ => ⟨_, _, _, (by rfl), q797⟩
theorem mkX_362 : MLP jcX miX (362, 0, 100, 1, true) := fun _ => ⟨_, _, _, (by rfl), q801⟩
theorem mkX_365 : MLP jcX miX (365, 0, 103, 0, true) := fun _ => ⟨_, _, _, (by rfl), q813⟩
theorem mkX_368 : MLP jcX miX (368, 0, 104, 1, false) := fun _ => ⟨_, _, _, (by rfl), q817⟩
theorem mkX_371 : MLP jcX miX (371, 0, 19, 1, true) := fun _ => ⟨_, _, _, (by rfl), q471⟩
theorem mkX_374 : MLP jcX miX (374, 0, 91, 0, true) := fun _ => ⟨_, _, _, (by rfl), q765⟩
theorem mkX_377 : MLP jcX miX (377, 0, 95, 0, true) := fun _ => ⟨_, _, _, (by rfl), q781⟩
theorem mkX_380 : MLP jcX miX (380, 0, 96, 0, true) := fun _ => ⟨_, _, _, (by rfl), q785⟩
theorem mkX_383 : MLP jcX miX (383, 0, 94, 0, true) := fun _ => ⟨_, _, _, (by rfl), q777⟩
theorem mkX_386 : MLP jcX miX (386, 0, 93, 3, true) := fun _ => ⟨_, _, _, (by rfl), q773⟩
theorem mkX_389 : MLP jcX miX (389, 0, 97, 0, true) := fun _ => ⟨_, _, _, (by rfl), q789⟩
theorem mkX_392 : MLP jcX miX (392, 0, 101, 2, false) := fun _ => ⟨_, _, _, (by rfl), q805⟩
theorem mkX_395 : MLP jcX miX (395, 0, 102, 2, false) := fun _ => ⟨_, _, _, (by rfl), q809⟩
theorem mkX_398 : MLP jcX miX (398, 0, 85, 0, true) := fun _ => ⟨_, _, _, (by rfl), q741⟩
theorem mkX_401 : MLP jcX miX (401, 0, 86, 0, false) := fun _ => ⟨_, _, _, (by rfl), q745⟩
theorem mkX_407 : MLP jcX miX (407, 0, 89, 3, true) := fun _ => ⟨_, _, _, (by rfl), q757⟩
theorem mkX_410 : MLP jcX miX (410, 0, 87, 1, false) := fun _ => ⟨_, _, _, (by rfl), q749⟩
theorem mkX_413 : MLP jcX miX (413, 0, 88, 0, true) := fun _ => ⟨_, _, _, (by rfl), q753⟩
theorem mkX_416 : MLP jcX miX (416, 0, 7, 1, false) := fun _ => ⟨_, _, _, (by rfl), q363⟩
theorem mkX_419 : MLP jcX miX (419, 0, 8, 0, true) := fun _ => ⟨_, _, _, (by rfl), q367⟩
theorem mkX_422 : MLP jcX miX (422, 0, 105, 1, false) := fun _ => ⟨_, _, _, (by rfl), q821⟩
theorem mkX_425 : MLP jcX miX (425, 0, 5, 0, true) := fun _ => ⟨_, _, _, (by rfl), q848⟩
theorem mkX_428 : MLP jcX miX (428, 0, 112, 1, false) := fun _ => ⟨_, _, _, (by rfl), q849⟩
theorem mkX_434 : MLP jcX miX (434, 0, 108, 2, true) := fun _ => ⟨_, _, _, (by rfl), q832⟩
theorem mkX_437 : MLP jcX miX (437, 0, 106, 2, true) := fun _ => ⟨_, _, _, (by rfl), q825⟩
theorem mkX_440 : MLP jcX miX (440, 0, 109, 1, false) := fun _ => ⟨_, _, _, (by rfl), q836⟩
theorem mkX_443 : MLP jcX miX (443, 0, 110, 2, false) := fun _ => ⟨_, _, _, (by rfl), q840⟩
theorem mkX_446 : MLP jcX miX (446, 0, 111, 1, false) := fun _ => ⟨_, _, _, (by rfl), q844⟩
theorem mkX_449 : MLP jcX miX (449, 0, 117, 1, true) := fun _ => ⟨_, _, _, (by rfl), q921⟩
theorem mlX_ok : ∀ e ∈ mlX, MLP jcX miX e := List.forall_mem_cons.mpr ⟨mkX_72, List.forall_mem_cons.mpr ⟨(fun h => (by cases h)), List.forall_mem_cons.mpr ⟨mkX_90, List.forall_mem_cons.mpr ⟨mkX_94, List.forall_mem_cons.mpr ⟨mkX_97, List.forall_mem_cons.mpr ⟨mkX_101, List.forall_mem_cons.mpr ⟨mkX_111, List.forall_mem_cons.mpr ⟨mkX_114, List.forall_mem_cons.mpr ⟨mkX_117, List.forall_mem_cons.mpr ⟨mkX_120, List.forall_mem_cons.mpr ⟨(fun h => (by cases h)), List.forall_mem_cons.mpr ⟨mkX_130, List.forall_mem_cons.mpr ⟨mkX_134, List.forall_mem_cons.mpr ⟨mkX_138, List.forall_mem_cons.mpr ⟨mkX_141, List.forall_mem_cons.mpr ⟨mkX_148, List.forall_mem_cons.mpr ⟨mkX_151, List.forall_mem_cons.mpr ⟨mkX_155, List.forall_mem_cons.mpr ⟨mkX_158, List.forall_mem_cons.mpr ⟨mkX_161, List.forall_mem_cons.mpr ⟨mkX_164, List.forall_mem_cons.mpr ⟨mkX_167, List.forall_mem_cons.mpr ⟨mkX_170, List.forall_mem_cons.mpr ⟨mkX_173, List.forall_mem_cons.mpr ⟨mkX_176, List.forall_mem_cons.mpr ⟨mkX_179, List.forall_mem_cons.mpr ⟨mkX_183, List.forall_mem_cons.mpr ⟨(fun h => (by cases h)), List.forall_mem_cons.mpr ⟨mkX_194, List.forall_mem_cons.mpr ⟨mkX_197, List.forall_mem_cons.mpr ⟨mkX_200, List.forall_mem_cons.mpr ⟨mkX_203, List.forall_mem_cons.mpr ⟨mkX_206, List.forall_mem_cons.mpr ⟨mkX_210, List.forall_mem_cons.mpr ⟨mkX_213, List.forall_mem_cons.mpr ⟨mkX_217, List.forall_mem_cons.mpr ⟨mkX_220, List.forall_mem_cons.mpr ⟨mkX_223, List.forall_mem_cons.mpr ⟨mkX_226, List.forall_mem_cons.mpr ⟨mkX_229, List.forall_mem_cons.mpr ⟨mkX_232, List.forall_mem_cons.mpr ⟨mkX_235, List.forall_mem_cons.mpr ⟨mkX_238, List.forall_mem_cons.mpr ⟨mkX_241, List.forall_mem_cons.mpr ⟨mkX_244, List.forall_mem_cons.mpr ⟨mkX_247, List.forall_mem_cons.mpr ⟨mkX_251, List.forall_mem_cons.mpr ⟨mkX_254, List.forall_mem_cons.mpr ⟨mkX_257, List.forall_mem_cons.mpr ⟨mkX_261, List.forall_mem_cons.mpr ⟨mkX_264, List.forall_mem_cons.mpr ⟨mkX_267, List.forall_mem_cons.mpr ⟨mkX_270, List.forall_mem_cons.mpr ⟨mkX_273, List.forall_mem_cons.mpr ⟨mkX_276, List.forall_mem_cons.mpr ⟨mkX_279, List.forall_mem_cons.mpr ⟨mkX_283, List.forall_mem_cons.mpr ⟨mkX_286, List.forall_mem_cons.mpr ⟨mkX_290, List.forall_mem_cons.mpr ⟨mkX_293, List.forall_mem_cons.mpr ⟨mkX_296, List.forall_mem_cons.mpr ⟨mkX_299, List.forall_mem_cons.mpr ⟨mkX_305, List.forall_mem_cons.mpr ⟨mkX_308, List.forall_mem_cons.mpr ⟨mkX_311, List.forall_mem_cons.mpr ⟨mkX_314, List.forall_mem_cons.mpr ⟨mkX_317, List.forall_mem_cons.mpr ⟨mkX_320, List.forall_mem_cons.mpr ⟨mkX_323, List.forall_mem_cons.mpr ⟨mkX_326, List.forall_mem_cons.mpr ⟨mkX_329, List.forall_mem_cons.mpr ⟨mkX_332, List.forall_mem_cons.mpr ⟨mkX_335, List.forall_mem_cons.mpr ⟨mkX_338, List.forall_mem_cons.mpr ⟨mkX_341, List.forall_mem_cons.mpr ⟨mkX_344, List.forall_mem_cons.mpr ⟨mkX_347, List.forall_mem_cons.mpr ⟨mkX_350, List.forall_mem_cons.mpr ⟨mkX_353, List.forall_mem_cons.mpr ⟨mkX_356, List.forall_mem_cons.mpr ⟨mkX_359, List.forall_mem_cons.mpr ⟨mkX_362, List.forall_mem_cons.mpr ⟨mkX_365, List.forall_mem_cons.mpr ⟨mkX_368, List.forall_mem_cons.mpr ⟨mkX_371, List.forall_mem_cons.mpr ⟨mkX_374, List.forall_mem_cons.mpr ⟨mkX_377, List.forall_mem_cons.mpr ⟨mkX_380, List.forall_mem_cons.mpr ⟨mkX_383, List.forall_mem_cons.mpr ⟨mkX_386, List.forall_mem_cons.mpr ⟨mkX_389, List.forall_mem_cons.mpr ⟨mkX_392, List.forall_mem_cons.mpr ⟨mkX_395, List.forall_mem_cons.mpr ⟨mkX_398, List.forall_mem_cons.mpr ⟨mkX_401, List.forall_mem_cons.mpr ⟨mkX_407, List.forall_mem_cons.mpr ⟨mkX_410, List.forall_mem_cons.mpr ⟨mkX_413, List.forall_mem_cons.mpr ⟨mkX_416, List.forall_mem_cons.mpr ⟨mkX_419, List.forall_mem_cons.mpr ⟨mkX_422, List.forall_mem_cons.mpr ⟨mkX_425, List.forall_mem_cons.mpr ⟨mkX_428, List.forall_mem_cons.mpr ⟨mkX_434, List.forall_mem_cons.mpr ⟨mkX_437, List.forall_mem_cons.mpr ⟨mkX_440, List.forall_mem_cons.mpr ⟨mkX_443, List.forall_mem_cons.mpr ⟨mkX_446, List.forall_mem_cons.mpr ⟨mkX_449, fun _ h => absurd h List.not_mem_nil⟩⟩⟩⟩⟩⟩⟩⟩⟩⟩⟩⟩⟩⟩⟩⟩⟩⟩⟩⟩⟩⟩⟩⟩⟩⟩⟩⟩⟩⟩⟩⟩⟩⟩⟩⟩⟩⟩⟩⟩⟩⟩⟩⟩⟩⟩⟩⟩⟩⟩⟩⟩⟩⟩⟩⟩⟩⟩⟩⟩⟩⟩⟩⟩⟩⟩⟩⟩⟩⟩⟩⟩⟩⟩⟩⟩⟩⟩⟩⟩⟩⟩⟩⟩⟩⟩⟩⟩⟩⟩⟩⟩⟩⟩⟩⟩⟩⟩⟩⟩⟩⟩⟩⟩⟩⟩⟩⟩⟩
theorem slX_ok : ∀ e ∈ slX, SLP jcX miX e := List.forall_mem_cons.mpr ⟨⟨_, _, _, (by rfl), q571⟩, List.forall_mem_cons.mpr ⟨⟨_, _, _, (by rfl), q598⟩, List.forall_mem_cons.mpr ⟨⟨_, _, _, (by rfl), q829⟩, fun _ h => absurd h List.not_mem_nil⟩⟩⟩
theorem miX_ok : MIok jcX cfX miX := by
  refine ⟨fun t y ws maxL np rt inst h => mtX_ok _ (alook_mem h), q199, (by unfold notMH; decide +kernel), fun n t np rt h => mlX_ok _ (alook_mem h) rfl, fun n t np rt h => slX_ok _ (alook_mem h)⟩
