/-! the constants of CoreSyntaxModel -/
set_option maxRecDepth 100000
def kdM : Nat → Nat := fun k => [4, 4, 4, 0, 4, 2, 2, 2, 2, 2, 2, 0, 5, 0, 0, 0, 0, 2, 2, 0, 0, 0, 1].getD k 9
def flM : List (Nat × Nat × Nat) := [(9, 0, 0), (13, 0, 1), (16, 0, 2), (19, 0, 4), (25, 0, 5), (29, 0, 6), (32, 0, 7), (35, 0, 8), (38, 0, 9), (41, 0, 10), (47, 0, 12), (51, 0, 16), (55, 0, 17), (58, 0, 18), (61, 0, 3), (64, 0, 15), (67, 0, 13), (81, 0, 14), (88, 2, 0), (91, 1, 0), (132, 0, 11), (149, 0, 19), (361, 0, 20), (364, 0, 21), (376, 0, 22)]
def mlM : List (Nat × Nat × Nat × Nat × Bool) := [(70, 0, 11, 2, false), (74, 0, 6, 1, true), (78, 0, 10, 0, false), (84, 1, 0, 1, false), (94, 1, 1, 0, true), (98, 0, 43, 1, true), (102, 0, 16, 5, true), (106, 0, 46, 1, true), (109, 0, 51, 2, true), (112, 0, 42, 1, true), (115, 0, 58, 3, true), (119, 0, 34, 2, true), (122, 0, 57, 4, true), (126, 0, 49, 2, true), (129, 0, 50, 4, true), (136, 0, 8, 0, true), (139, 0, 20, 0, true), (143, 0, 21, 0, true), (146, 0, 9, 1, true), (152, 0, 31, 0, true), (159, 0, 13, 0, true), (162, 0, 14, 0, true), (165, 0, 22, 1, true), (169, 0, 35, 0, true), (172, 0, 67, 4, true), (175, 0, 15, 0, false), (178, 0, 17, 0, true), (181, 0, 12, 0, true), (184, 0, 33, 1, false), (187, 0, 68, 3, true), (190, 0, 61, 0, true), (193, 0, 55, 2, true), (196, 0, 18, 0, true), (199, 0, 23, 0, true), (202, 0, 53, 0, true), (205, 0, 63, 0, true), (208, 0, 64, 2, false), (211, 0, 65, 2, true), (215, 0, 66, 1, false), (219, 0, 26, 0, true), (222, 0, 24, 0, true), (225, 0, 27, 1, true), (228, 0, 54, 0, true), (231, 0, 59, 1, false), (234, 0, 48, 3, true), (238, 0, 60, 0, true), (241, 0, 32, 0, true), (244, 0, 5, 1, true), (247, 0, 62, 1, false), (250, 0, 56, 2, true), (253, 0, 47, 3, true), (256, 0, 30, 1, false), (259, 0, 40, 1, false), (262, 0, 19, 0, true), (265, 0, 25, 0, true), (268, 0, 52, 0, true), (271, 0, 28, 0, true), (274, 0, 29, 1, true), (277, 0, 36, 0, true), (280, 0, 37, 0, true), (283, 0, 45, 0, true), (286, 0, 38, 0, true), (289, 0, 44, 2, true), (292, 0, 39, 0, true), (295, 0, 7, 0, true), (298, 0, 69, 1, true), (301, 0, 71, 1, true), (304, 0, 78, 1, true), (307, 0, 81, 1, true), (310, 0, 87, 2, true), (313, 0, 86, 0, true), (316, 0, 88, 1, true), (319, 0, 89, 0, true), (322, 0, 90, 0, true), (325, 0, 91, 1, false), (328, 0, 70, 1, true), (331, 0, 82, 0, true), (334, 0, 85, 0, true), (337, 0, 84, 0, true), (340, 0, 83, 3, true), (343, 0, 79, 2, false), (346, 0, 80, 2, false), (349, 0, 74, 1, true), (352, 0, 75, 0, true), (355, 0, 76, 0, true), (358, 0, 73, 0, true), (367, 0, 72, 1, true), (370, 0, 77, 2, true), (373, 0, 92, 1, false), (383, 0, 93, 2, true), (386, 0, 95, 0, false), (389, 0, 101, 1, true), (392, 0, 103, 1, true)]
def slM : List (Nat × Nat × Nat × Bool) := [(156, 41, 1, true), (380, 94, 1, true)]
def kcM : List (Nat × Int32) := [(155, 1000000), (135, 100000)]
def cfM : CF := (kdM, alook flM, alook mlM, alook slM, alook kcM)
def jcM : JC := (RX3, TX3, RX4, TX4, "CoreSyntaxModel", 91, 88)
theorem m_n9 : cfM.2.1 9 = some (0, 0) := rfl
theorem m_n13 : cfM.2.1 13 = some (0, 1) := rfl
theorem m_n16 : cfM.2.1 16 = some (0, 2) := rfl
theorem m_n19 : cfM.2.1 19 = some (0, 4) := rfl
theorem m_n25 : cfM.2.1 25 = some (0, 5) := rfl
theorem m_n29 : cfM.2.1 29 = some (0, 6) := rfl
theorem m_n32 : cfM.2.1 32 = some (0, 7) := rfl
theorem m_n35 : cfM.2.1 35 = some (0, 8) := rfl
theorem m_n38 : cfM.2.1 38 = some (0, 9) := rfl
theorem m_n41 : cfM.2.1 41 = some (0, 10) := rfl
theorem m_n47 : cfM.2.1 47 = some (0, 12) := rfl
theorem m_n51 : cfM.2.1 51 = some (0, 16) := rfl
theorem m_n55 : cfM.2.1 55 = some (0, 17) := rfl
theorem m_n58 : cfM.2.1 58 = some (0, 18) := rfl
theorem m_n61 : cfM.2.1 61 = some (0, 3) := rfl
theorem m_n64 : cfM.2.1 64 = some (0, 15) := rfl
theorem m_n67 : cfM.2.1 67 = some (0, 13) := rfl
theorem m_n81 : cfM.2.1 81 = some (0, 14) := rfl
theorem m_n88 : cfM.2.1 88 = some (2, 0) := rfl
theorem m_n91 : cfM.2.1 91 = some (1, 0) := rfl
theorem m_n132 : cfM.2.1 132 = some (0, 11) := rfl
theorem m_n149 : cfM.2.1 149 = some (0, 19) := rfl
theorem m_n361 : cfM.2.1 361 = some (0, 20) := rfl
theorem m_n364 : cfM.2.1 364 = some (0, 21) := rfl
theorem m_n376 : cfM.2.1 376 = some (0, 22) := rfl
theorem m_m70 : cfM.2.2.1 70 = some (0, 11, 2, false) := rfl
theorem m_m74 : cfM.2.2.1 74 = some (0, 6, 1, true) := rfl
theorem m_m78 : cfM.2.2.1 78 = some (0, 10, 0, false) := rfl
theorem m_m84 : cfM.2.2.1 84 = some (1, 0, 1, false) := rfl
theorem m_m94 : cfM.2.2.1 94 = some (1, 1, 0, true) := rfl
theorem m_m98 : cfM.2.2.1 98 = some (0, 43, 1, true) := rfl
theorem m_m102 : cfM.2.2.1 102 = some (0, 16, 5, true) := rfl
theorem m_m106 : cfM.2.2.1 106 = some (0, 46, 1, true) := rfl
theorem m_m109 : cfM.2.2.1 109 = some (0, 51, 2, true) := rfl
theorem m_m112 : cfM.2.2.1 112 = some (0, 42, 1, true) := rfl
theorem m_m115 : cfM.2.2.1 115 = some (0, 58, 3, true) := rfl
theorem m_m119 : cfM.2.2.1 119 = some (0, 34, 2, true) := rfl
theorem m_m122 : cfM.2.2.1 122 = some (0, 57, 4, true) := rfl
theorem m_m126 : cfM.2.2.1 126 = some (0, 49, 2, true) := rfl
theorem m_m129 : cfM.2.2.1 129 = some (0, 50, 4, true) := rfl
theorem m_m136 : cfM.2.2.1 136 = some (0, 8, 0, true) := rfl
theorem m_m139 : cfM.2.2.1 139 = some (0, 20, 0, true) := rfl
theorem m_m143 : cfM.2.2.1 143 = some (0, 21, 0, true) := rfl
theorem m_m146 : cfM.2.2.1 146 = some (0, 9, 1, true) := rfl
theorem m_m152 : cfM.2.2.1 152 = some (0, 31, 0, true) := rfl
theorem m_m159 : cfM.2.2.1 159 = some (0, 13, 0, true) := rfl
theorem m_m162 : cfM.2.2.1 162 = some (0, 14, 0, true) := rfl
theorem m_m165 : cfM.2.2.1 165 = some (0, 22, 1, true) := rfl
theorem m_m169 : cfM.2.2.1 169 = some (0, 35, 0, true) := rfl
theorem m_m172 : cfM.2.2.1 172 = some (0, 67, 4, true) := rfl
theorem m_m175 : cfM.2.2.1 175 = some (0, 15, 0, false) := rfl
theorem m_m178 : cfM.2.2.1 178 = some (0, 17, 0, true) := rfl
theorem m_m181 : cfM.2.2.1 181 = some (0, 12, 0, true) := rfl
theorem m_m184 : cfM.2.2.1 184 = some (0, 33, 1, false) := rfl
theorem m_m187 : cfM.2.2.1 187 = some (0, 68, 3, true) := rfl
theorem m_m190 : cfM.2.2.1 190 = some (0, 61, 0, true) := rfl
theorem m_m193 : cfM.2.2.1 193 = some (0, 55, 2, true) := rfl
theorem m_m196 : cfM.2.2.1 196 = some (0, 18, 0, true) := rfl
theorem m_m199 : cfM.2.2.1 199 = some (0, 23, 0, true) := rfl
theorem m_m202 : cfM.2.2.1 202 = some (0, 53, 0, true) := rfl
theorem m_m205 : cfM.2.2.1 205 = some (0, 63, 0, true) := rfl
theorem m_m208 : cfM.2.2.1 208 = some (0, 64, 2, false) := rfl
theorem m_m211 : cfM.2.2.1 211 = some (0, 65, 2, true) := rfl
theorem m_m215 : cfM.2.2.1 215 = some (0, 66, 1, false) := rfl
theorem m_m219 : cfM.2.2.1 219 = some (0, 26, 0, true) := rfl
theorem m_m222 : cfM.2.2.1 222 = some (0, 24, 0, true) := rfl
theorem m_m225 : cfM.2.2.1 225 = some (0, 27, 1, true) := rfl
theorem m_m228 : cfM.2.2.1 228 = some (0, 54, 0, true) := rfl
theorem m_m231 : cfM.2.2.1 231 = some (0, 59, 1, false) := rfl
theorem m_m234 : cfM.2.2.1 234 = some (0, 48, 3, true) := rfl
theorem m_m238 : cfM.2.2.1 238 = some (0, 60, 0, true) := rfl
theorem m_m241 : cfM.2.2.1 241 = some (0, 32, 0, true) := rfl
theorem m_m244 : cfM.2.2.1 244 = some (0, 5, 1, true) := rfl
theorem m_m247 : cfM.2.2.1 247 = some (0, 62, 1, false) := rfl
theorem m_m250 : cfM.2.2.1 250 = some (0, 56, 2, true) := rfl
theorem m_m253 : cfM.2.2.1 253 = some (0, 47, 3, true) := rfl
theorem m_m256 : cfM.2.2.1 256 = some (0, 30, 1, false) := rfl
theorem m_m259 : cfM.2.2.1 259 = some (0, 40, 1, false) := rfl
theorem m_m262 : cfM.2.2.1 262 = some (0, 19, 0, true) := rfl
theorem m_m265 : cfM.2.2.1 265 = some (0, 25, 0, true) := rfl
theorem m_m268 : cfM.2.2.1 268 = some (0, 52, 0, true) := rfl
theorem m_m271 : cfM.2.2.1 271 = some (0, 28, 0, true) := rfl
theorem m_m274 : cfM.2.2.1 274 = some (0, 29, 1, true) := rfl
theorem m_m277 : cfM.2.2.1 277 = some (0, 36, 0, true) := rfl
theorem m_m280 : cfM.2.2.1 280 = some (0, 37, 0, true) := rfl
theorem m_m283 : cfM.2.2.1 283 = some (0, 45, 0, true) := rfl
theorem m_m286 : cfM.2.2.1 286 = some (0, 38, 0, true) := rfl
theorem m_m289 : cfM.2.2.1 289 = some (0, 44, 2, true) := rfl
theorem m_m292 : cfM.2.2.1 292 = some (0, 39, 0, true) := rfl
theorem m_m295 : cfM.2.2.1 295 = some (0, 7, 0, true) := rfl
theorem m_m298 : cfM.2.2.1 298 = some (0, 69, 1, true) := rfl
theorem m_m301 : cfM.2.2.1 301 = some (0, 71, 1, true) := rfl
theorem m_m304 : cfM.2.2.1 304 = some (0, 78, 1, true) := rfl
theorem m_m307 : cfM.2.2.1 307 = some (0, 81, 1, true) := rfl
theorem m_m310 : cfM.2.2.1 310 = some (0, 87, 2, true) := rfl
theorem m_m313 : cfM.2.2.1 313 = some (0, 86, 0, true) := rfl
theorem m_m316 : cfM.2.2.1 316 = some (0, 88, 1, true) := rfl
theorem m_m319 : cfM.2.2.1 319 = some (0, 89, 0, true) := rfl
theorem m_m322 : cfM.2.2.1 322 = some (0, 90, 0, true) := rfl
theorem m_m325 : cfM.2.2.1 325 = some (0, 91, 1, false) := rfl
theorem m_m328 : cfM.2.2.1 328 = some (0, 70, 1, true) := rfl
theorem m_m331 : cfM.2.2.1 331 = some (0, 82, 0, true) := rfl
theorem m_m334 : cfM.2.2.1 334 = some (0, 85, 0, true) := rfl
theorem m_m337 : cfM.2.2.1 337 = some (0, 84, 0, true) := rfl
theorem m_m340 : cfM.2.2.1 340 = some (0, 83, 3, true) := rfl
theorem m_m343 : cfM.2.2.1 343 = some (0, 79, 2, false) := rfl
theorem m_m346 : cfM.2.2.1 346 = some (0, 80, 2, false) := rfl
theorem m_m349 : cfM.2.2.1 349 = some (0, 74, 1, true) := rfl
theorem m_m352 : cfM.2.2.1 352 = some (0, 75, 0, true) := rfl
theorem m_m355 : cfM.2.2.1 355 = some (0, 76, 0, true) := rfl
theorem m_m358 : cfM.2.2.1 358 = some (0, 73, 0, true) := rfl
theorem m_m367 : cfM.2.2.1 367 = some (0, 72, 1, true) := rfl
theorem m_m370 : cfM.2.2.1 370 = some (0, 77, 2, true) := rfl
theorem m_m373 : cfM.2.2.1 373 = some (0, 92, 1, false) := rfl
theorem m_m383 : cfM.2.2.1 383 = some (0, 93, 2, true) := rfl
theorem m_m386 : cfM.2.2.1 386 = some (0, 95, 0, false) := rfl
theorem m_m389 : cfM.2.2.1 389 = some (0, 101, 1, true) := rfl
theorem m_m392 : cfM.2.2.1 392 = some (0, 103, 1, true) := rfl
theorem m_s156 : cfM.2.2.2.1 156 = some (41, 1, true) := rfl
theorem m_s380 : cfM.2.2.2.1 380 = some (94, 1, true) := rfl
theorem m_a0 : cfM.1 0 = 4 ∧ 0 < 23 := ⟨rfl, by decide⟩
theorem m_a1 : cfM.1 1 = 4 ∧ 1 < 23 := ⟨rfl, by decide⟩
theorem m_a2 : cfM.1 2 = 4 ∧ 2 < 23 := ⟨rfl, by decide⟩
theorem m_i3 : cfM.1 3 ≤ 1 := by decide
theorem m_z3 : cfM.1 3 = 0 := rfl
theorem m_a4 : cfM.1 4 = 4 ∧ 4 < 23 := ⟨rfl, by decide⟩
theorem m_r5 : cfM.1 5 = 2 ∧ 5 < 23 := ⟨rfl, by decide⟩
theorem m_r6 : cfM.1 6 = 2 ∧ 6 < 23 := ⟨rfl, by decide⟩
theorem m_r7 : cfM.1 7 = 2 ∧ 7 < 23 := ⟨rfl, by decide⟩
theorem m_r8 : cfM.1 8 = 2 ∧ 8 < 23 := ⟨rfl, by decide⟩
theorem m_r9 : cfM.1 9 = 2 ∧ 9 < 23 := ⟨rfl, by decide⟩
theorem m_r10 : cfM.1 10 = 2 ∧ 10 < 23 := ⟨rfl, by decide⟩
theorem m_i11 : cfM.1 11 ≤ 1 := by decide
theorem m_z11 : cfM.1 11 = 0 := rfl
theorem m_i13 : cfM.1 13 ≤ 1 := by decide
theorem m_z13 : cfM.1 13 = 0 := rfl
theorem m_i14 : cfM.1 14 ≤ 1 := by decide
theorem m_z14 : cfM.1 14 = 0 := rfl
theorem m_i15 : cfM.1 15 ≤ 1 := by decide
theorem m_z15 : cfM.1 15 = 0 := rfl
theorem m_i16 : cfM.1 16 ≤ 1 := by decide
theorem m_z16 : cfM.1 16 = 0 := rfl
theorem m_r17 : cfM.1 17 = 2 ∧ 17 < 23 := ⟨rfl, by decide⟩
theorem m_r18 : cfM.1 18 = 2 ∧ 18 < 23 := ⟨rfl, by decide⟩
theorem m_i19 : cfM.1 19 ≤ 1 := by decide
theorem m_z19 : cfM.1 19 = 0 := rfl
theorem m_i20 : cfM.1 20 ≤ 1 := by decide
theorem m_z20 : cfM.1 20 = 0 := rfl
theorem m_i21 : cfM.1 21 ≤ 1 := by decide
theorem m_z21 : cfM.1 21 = 0 := rfl
theorem m_i22 : cfM.1 22 ≤ 1 := by decide
theorem m_b22 : cfM.1 22 = 1 := rfl
theorem flM_ok : ∀ e ∈ flM, FLP jcM e := List.forall_mem_cons.mpr ⟨⟨fun _ => ⟨by decide, q949⟩, fun h => (by cases h), fun h => (by cases h)⟩, List.forall_mem_cons.mpr ⟨⟨fun _ => ⟨by decide, q950⟩, fun h => (by cases h), fun h => (by cases h)⟩, List.forall_mem_cons.mpr ⟨⟨fun _ => ⟨by decide, q951⟩, fun h => (by cases h), fun h => (by cases h)⟩, List.forall_mem_cons.mpr ⟨⟨fun _ => ⟨by decide, q953⟩, fun h => (by cases h), fun h => (by cases h)⟩, List.forall_mem_cons.mpr ⟨⟨fun _ => ⟨by decide, q954⟩, fun h => (by cases h), fun h => (by cases h)⟩, List.forall_mem_cons.mpr ⟨⟨fun _ => ⟨by decide, q955⟩, fun h => (by cases h), fun h => (by cases h)⟩, List.forall_mem_cons.mpr ⟨⟨fun _ => ⟨by decide, q956⟩, fun h => (by cases h), fun h => (by cases h)⟩, List.forall_mem_cons.mpr ⟨⟨fun _ => ⟨by decide, q957⟩, fun h => (by cases h), fun h => (by cases h)⟩, List.forall_mem_cons.mpr ⟨⟨fun _ => ⟨by decide, q958⟩, fun h => (by cases h), fun h => (by cases h)⟩, List.forall_mem_cons.mpr ⟨⟨fun _ => ⟨by decide, q959⟩, fun h => (by cases h), fun h => (by cases h)⟩, List.forall_mem_cons.mpr ⟨⟨fun _ => ⟨by decide, q961⟩, fun h => (by cases h), fun h => (by cases h)⟩, List.forall_mem_cons.mpr ⟨⟨fun _ => ⟨by decide, q965⟩, fun h => (by cases h), fun h => (by cases h)⟩, List.forall_mem_cons.mpr ⟨⟨fun _ => ⟨by decide, q966⟩, fun h => (by cases h), fun h => (by cases h)⟩, List.forall_mem_cons.mpr ⟨⟨fun _ => ⟨by decide, q967⟩, fun h => (by cases h), fun h => (by cases h)⟩, List.forall_mem_cons.mpr ⟨⟨fun _ => ⟨by decide, q952⟩, fun h => (by cases h), fun h => (by cases h)⟩, List.forall_mem_cons.mpr ⟨⟨fun _ => ⟨by decide, q964⟩, fun h => (by cases h), fun h => (by cases h)⟩, List.forall_mem_cons.mpr ⟨⟨fun _ => ⟨by decide, q962⟩, fun h => (by cases h), fun h => (by cases h)⟩, List.forall_mem_cons.mpr ⟨⟨fun _ => ⟨by decide, q963⟩, fun h => (by cases h), fun h => (by cases h)⟩, List.forall_mem_cons.mpr ⟨⟨fun h => (by cases h), fun h => (by cases h), fun _ => rfl⟩, List.forall_mem_cons.mpr ⟨⟨fun h => (by cases h), fun _ => rfl, fun h => (by cases h)⟩, List.forall_mem_cons.mpr ⟨⟨fun _ => ⟨by decide, q960⟩, fun h => (by cases h), fun h => (by cases h)⟩, List.forall_mem_cons.mpr ⟨⟨fun _ => ⟨by decide, q968⟩, fun h => (by cases h), fun h => (by cases h)⟩, List.forall_mem_cons.mpr ⟨⟨fun _ => ⟨by decide, q969⟩, fun h => (by cases h), fun h => (by cases h)⟩, List.forall_mem_cons.mpr ⟨⟨fun _ => ⟨by decide, q970⟩, fun h => (by cases h), fun h => (by cases h)⟩, List.forall_mem_cons.mpr ⟨⟨fun _ => ⟨by decide, q971⟩, fun h => (by cases h), fun h => (by cases h)⟩, fun _ h => absurd h List.not_mem_nil⟩⟩⟩⟩⟩⟩⟩⟩⟩⟩⟩⟩⟩⟩⟩⟩⟩⟩⟩⟩⟩⟩⟩⟩⟩
theorem kcM_ok : ∀ e ∈ kcM, Cond.constant jcM.1 e.1 e.2 ∈ lw_all := List.forall_mem_cons.mpr ⟨q1187, List.forall_mem_cons.mpr ⟨q1272, fun _ h => absurd h List.not_mem_nil⟩⟩
theorem cfM_ok : CFok jcM cfM tyX3 := by
  refine ⟨fun n k h => (flM_ok _ (alook_mem h)).1 rfl, fun n z h => (flM_ok _ (alook_mem h)).2.1 rfl, fun n z h => (flM_ok _ (alook_mem h)).2.2 rfl, by decide +kernel, by decide +kernel, ⟨in_X3, nmX3, tyX3_ok⟩, ⟨in_X4, nmX4, ⟨tyX4_ok 0 (by decide), tyX4_ok 1 (by decide)⟩, rfl, rfl, rfl, rfl⟩, fun n v h => kcM_ok _ (alook_mem h)⟩
def mtM : List (Nat × MF) := [(1, yX3_token, ws_ yX3_token cX3_token 6 (some .int), 6, 3, true, true),
  (2, yX3_clear, ws_ yX3_clear cX3_clear 2 (some .int), 2, 0, true, true),
  (3, yX3_tokens, ws_ yX3_tokens cX3_tokens 1 (some .int), 1, 0, true, true),
  (4, yX3_parse, wsW_ yX3_parse cX3_parse 3 (some .int) [(73, 82, 85, 44)], 3, 0, true, true),
  (5, yX3_decs, ws_ yX3_decs cX3_decs 8 (some .int), 8, 1, true, true),
  (6, yX3_is, ws_ yX3_is cX3_is 2 (some .boolean), 2, 1, true, true),
  (7, yX3_isDeclaration, ws_ yX3_isDeclaration cX3_isDeclaration 1 (some .boolean), 1, 0, true, true),
  (8, yX3_kind, ws_ yX3_kind cX3_kind 1 (some .int), 1, 0, true, true),
  (9, yX3_eat, ws_ yX3_eat cX3_eat 3 (some .boolean), 3, 1, true, true),
  (10, yX3_stop, ws_ yX3_stop cX3_stop 1 none, 1, 0, false, true),
  (11, yX3_fail, ws_ yX3_fail cX3_fail 3 none, 3, 2, false, true),
  (12, yX3_exp, ws_ yX3_exp cX3_exp 9 (some .int), 9, 0, true, true),
  (13, yX3_isForm, ws_ yX3_isForm cX3_isForm 1 (some .boolean), 1, 0, true, true),
  (14, yX3_form, ws_ yX3_form cX3_form 6 (some .int), 6, 0, true, true),
  (15, yX3_enter, ws_ yX3_enter cX3_enter 1 none, 1, 0, false, true),
  (16, yX3_make, ws_ yX3_make cX3_make 6 (some .int), 6, 5, true, true),
  (17, yX3_match, ws_ yX3_match cX3_match 4 (some .int), 4, 0, true, true),
  (18, yX3_pat, ws_ yX3_pat cX3_pat 7 (some .int), 7, 0, true, true),
  (19, yX3_isBare, ws_ yX3_isBare cX3_isBare 1 (some .boolean), 1, 0, true, true),
  (20, yX3_isName, ws_ yX3_isName cX3_isName 1 (some .boolean), 1, 0, true, true),
  (21, yX3_isOperator, ws_ yX3_isOperator cX3_isOperator 1 (some .boolean), 1, 0, true, true),
  (22, yX3_infix, ws_ yX3_infix cX3_infix 6 (some .int), 6, 1, true, true),
  (23, yX3_applied, ws_ yX3_applied cX3_applied 4 (some .int), 4, 0, true, true),
  (24, yX3_isId, ws_ yX3_isId cX3_isId 1 (some .boolean), 1, 0, true, true),
  (25, yX3_atomicPattern, ws_ yX3_atomicPattern cX3_atomicPattern 4 (some .int), 4, 0, true, true),
  (26, yX3_isConstant, ws_ yX3_isConstant cX3_isConstant 1 (some .boolean), 1, 0, true, true),
  (27, yX3_id, ws_ yX3_id cX3_id 3 (some .int), 3, 1, true, true),
  (28, yX3_recordPattern, ws_ yX3_recordPattern cX3_recordPattern 5 (some .int), 5, 0, true, true),
  (29, yX3_field, ws_ yX3_field cX3_field 7 (some .int), 7, 1, true, true),
  (30, yX3_checkLabel, ws_ yX3_checkLabel cX3_checkLabel 4 none, 4, 1, false, true),
  (31, yX3_isLabel, ws_ yX3_isLabel cX3_isLabel 1 (some .boolean), 1, 0, true, true),
  (32, yX3_label, ws_ yX3_label cX3_label 2 (some .int), 2, 0, true, true),
  (33, yX3_need, ws_ yX3_need cX3_need 2 none, 2, 1, false, true),
  (34, yX3_variable, ws_ yX3_variable cX3_variable 3 (some .int), 3, 2, true, true),
  (35, yX3_type, ws_ yX3_type cX3_type 4 (some .int), 4, 0, true, true),
  (36, yX3_product, ws_ yX3_product cX3_product 3 (some .int), 3, 0, true, true),
  (37, yX3_appliedType, ws_ yX3_appliedType cX3_appliedType 3 (some .int), 3, 0, true, true),
  (38, yX3_firstType, ws_ yX3_firstType cX3_firstType 3 (some .int), 3, 0, true, true),
  (39, yX3_recordType, ws_ yX3_recordType cX3_recordType 5 (some .int), 5, 0, true, true),
  (40, yX3_sort, ws_ yX3_sort cX3_sort 5 none, 5, 1, false, true),
  (41, yX3_rank, ws_ yX3_rank cX3_rank 1 (some .int), 1, 1, true, false),
  (42, yX3_list, ws_ yX3_list cX3_list 4 (some .int), 4, 1, true, true),
  (43, yX3_placeOf, ws_ yX3_placeOf cX3_placeOf 2 (some .int), 2, 1, true, true),
  (44, yX3_built, ws_ yX3_built cX3_built 5 (some .int), 5, 2, true, true),
  (45, yX3_isConstructor, ws_ yX3_isConstructor cX3_isConstructor 1 (some .boolean), 1, 0, true, true),
  (46, yX3_listOf, ws_ yX3_listOf cX3_listOf 2 (some .int), 2, 1, true, true),
  (47, yX3_tuple, ws_ yX3_tuple cX3_tuple 5 (some .int), 5, 3, true, true),
  (48, yX3_chain, ws_ yX3_chain cX3_chain 6 (some .int), 6, 3, true, true),
  (49, yX3_name, ws_ yX3_name cX3_name 3 (some .int), 3, 2, true, true),
  (50, yX3_couple, ws_ yX3_couple cX3_couple 6 (some .int), 6, 4, true, true),
  (51, yX3_listOf_2, ws_ yX3_listOf_2 cX3_listOf_2 3 (some .int), 3, 2, true, true),
  (52, yX3_isAtomicPattern, ws_ yX3_isAtomicPattern cX3_isAtomicPattern 1 (some .boolean), 1, 0, true, true),
  (53, yX3_atomic, ws_ yX3_atomic cX3_atomic 6 (some .int), 6, 0, true, true),
  (54, yX3_round, ws_ yX3_round cX3_round 3 (some .int), 3, 0, true, true),
  (55, yX3_unit, ws_ yX3_unit cX3_unit 3 (some .int), 3, 2, true, true),
  (56, yX3_sequence, ws_ yX3_sequence cX3_sequence 4 (some .int), 4, 2, true, true),
  (57, yX3_oneCase, ws_ yX3_oneCase cX3_oneCase 5 (some .int), 5, 4, true, true),
  (58, yX3_rule, ws_ yX3_rule cX3_rule 4 (some .int), 4, 3, true, true),
  (59, yX3_items, ws_ yX3_items cX3_items 2 none, 2, 1, false, true),
  (60, yX3_record, ws_ yX3_record cX3_record 5 (some .int), 5, 0, true, true),
  (61, yX3_freshName, ws_ yX3_freshName cX3_freshName 1 (some .int), 1, 0, true, true),
  (62, yX3_undo, ws_ yX3_undo cX3_undo 3 none, 3, 1, false, true),
  (63, yX3_isAtomic, ws_ yX3_isAtomic cX3_isAtomic 1 (some .boolean), 1, 0, true, true),
  (64, yX3_checkOperator, ws_ yX3_checkOperator cX3_checkOperator 4 none, 4, 2, false, true),
  (65, yX3_bindsFirst, ws_ yX3_bindsFirst cX3_bindsFirst 4 (some .boolean), 4, 2, true, true),
  (66, yX3_join, ws_ yX3_join cX3_join 8 none, 8, 1, false, true),
  (67, yX3_choice, ws_ yX3_choice cX3_choice 7 (some .int), 7, 4, true, true),
  (68, yX3_loop, ws_ yX3_loop cX3_loop 9 (some .int), 9, 3, true, true),
  (69, yX3_val, ws_ yX3_val cX3_val 7 (some .int), 7, 1, true, true),
  (70, yX3_typeVariables, ws_ yX3_typeVariables cX3_typeVariables 4 (some .int), 4, 1, true, true),
  (71, yX3_fun, ws_ yX3_fun cX3_fun 7 (some .int), 7, 1, true, true),
  (72, yX3_clause, ws_ yX3_clause cX3_clause 10 (some .int), 10, 1, true, true),
  (73, yX3_head, ws_ yX3_head cX3_head 7 (some .int), 7, 0, true, true),
  (74, yX3_isOperatorAt, ws_ yX3_isOperatorAt cX3_isOperatorAt 2 (some .boolean), 2, 1, true, true),
  (75, yX3_isBracketed, wsW_ yX3_isBracketed cX3_isBracketed 10 (some .boolean) [(45, 111, 114, 44)], 10, 0, true, true),
  (76, yX3_operator, ws_ yX3_operator cX3_operator 1 (some .int), 1, 0, true, true),
  (77, yX3_nest, ws_ yX3_nest cX3_nest 10 (some .int), 10, 2, true, true),
  (78, yX3_local, ws_ yX3_local cX3_local 6 (some .int), 6, 1, true, true),
  (79, yX3_settle, ws_ yX3_settle cX3_settle 5 none, 5, 2, false, true),
  (80, yX3_change, ws_ yX3_change cX3_change 3 none, 3, 2, false, true),
  (81, yX3_abstype, ws_ yX3_abstype cX3_abstype 8 (some .int), 8, 1, true, true),
  (82, yX3_shortConstructor, ws_ yX3_shortConstructor cX3_shortConstructor 1 (some .int), 1, 0, true, true),
  (83, yX3_datatypes, ws_ yX3_datatypes cX3_datatypes 8 (some .int), 8, 3, true, true),
  (84, yX3_constructors, ws_ yX3_constructors cX3_constructors 4 (some .int), 4, 0, true, true),
  (85, yX3_bound, ws_ yX3_bound cX3_bound 2 (some .int), 2, 0, true, true),
  (86, yX3_typeBindings, ws_ yX3_typeBindings cX3_typeBindings 5 (some .int), 5, 0, true, true),
  (87, yX3_declaration, ws_ yX3_declaration cX3_declaration 3 (some .int), 3, 2, true, true),
  (88, yX3_datatype, ws_ yX3_datatype cX3_datatype 7 (some .int), 7, 1, true, true),
  (89, yX3_exceptions, ws_ yX3_exceptions cX3_exceptions 5 (some .int), 5, 0, true, true),
  (90, yX3_opened, ws_ yX3_opened cX3_opened 3 (some .int), 3, 0, true, true),
  (91, yX3_changeFixities, ws_ yX3_changeFixities cX3_changeFixities 3 none, 3, 1, false, true),
  (92, yX3_number, ws_ yX3_number cX3_number 8 none, 8, 1, false, true),
  (93, yX3_isPart, ws_ yX3_isPart cX3_isPart 3 (some .boolean), 3, 2, true, true),
  (94, yX3_parts, ws_ yX3_parts cX3_parts 1 (some .int), 1, 1, true, false),
  (95, yX3_finish, ws_ yX3_finish cX3_finish 6 none, 6, 0, false, true),
  (96, yX3_fault, ws_ yX3_fault cX3_fault 2 (some .int), 2, 1, true, true),
  (97, yX3_retreat, ws_ yX3_retreat cX3_retreat 2 (some .boolean), 2, 0, true, true),
  (98, yX3_fixity, ws_ yX3_fixity cX3_fixity 2 (some .int), 2, 1, true, true),
  (99, yX3_nodes, ws_ yX3_nodes cX3_nodes 1 (some .int), 1, 0, true, true),
  (100, yX3_node, ws_ yX3_node cX3_node 3 (some .int), 3, 2, true, true),
  (101, yX3_isNode, ws_ yX3_isNode cX3_isNode 2 (some .boolean), 2, 1, true, true),
  (102, yX3_length, ws_ yX3_length cX3_length 4 (some .int), 4, 1, true, true),
  (103, yX3_isList, ws_ yX3_isList cX3_isList 2 (some .boolean), 2, 1, true, true),
  (104, yX3_item, ws_ yX3_item cX3_item 5 (some .int), 5, 2, true, true),
  (105, yX3_behind, ws_ yX3_behind cX3_behind 2 (some .int), 2, 1, true, true),
  (106, yX3_same, ws_ yX3_same cX3_same 10 (some .boolean), 10, 2, true, true),
  (107, yX3_fresh, ws_ yX3_fresh cX3_fresh 1 (some .int), 1, 0, true, true)]
def miM : Nat → Option MF := alook mtM
theorem mwM_token : MTP jcM (mtM[0]) := ⟨rfl, by decide, by decide +kernel, fun _ => ⟨q1020, q1021⟩, fun h => (by cases h), Or.inl ⟨_, _, q1022, rfl⟩⟩
theorem mwM_clear : MTP jcM (mtM[1]) := ⟨rfl, by decide, by decide +kernel, fun _ => ⟨q1024, q1025⟩, fun h => (by cases h), Or.inl ⟨_, _, q1026, rfl⟩⟩
theorem mwM_tokens : MTP jcM (mtM[2]) := ⟨rfl, by decide, by decide +kernel, fun _ => ⟨q1028, q1029⟩, fun h => (by cases h), Or.inl ⟨_, _, q1030, rfl⟩⟩
theorem mwM_parse : MTP jcM (mtM[3]) := ⟨rfl, by decide, by decide +kernel, fun _ => ⟨q1032, q1033⟩, fun h => (by cases h), Or.inr ⟨_, _, _, q1034, rfl⟩⟩
theorem mwM_decs : MTP jcM (mtM[4]) := ⟨rfl, by decide, by decide +kernel, fun _ => ⟨q1037, qs106⟩, fun h => (by cases h), Or.inl ⟨_, _, q1038, rfl⟩⟩
theorem mwM_is : MTP jcM (mtM[5]) := ⟨rfl, by decide, by decide +kernel, fun _ => ⟨q1041, qs107⟩, fun h => (by cases h), Or.inl ⟨_, _, q1042, rfl⟩⟩
theorem mwM_isDeclaration : MTP jcM (mtM[6]) := ⟨rfl, by decide, by decide +kernel, fun _ => ⟨q1045, qs108⟩, fun h => (by cases h), Or.inl ⟨_, _, q1046, rfl⟩⟩
theorem mwM_kind : MTP jcM (mtM[7]) := ⟨rfl, by decide, by decide +kernel, fun _ => ⟨q1049, qs109⟩, fun h => (by cases h), Or.inl ⟨_, _, q1050, rfl⟩⟩
theorem mwM_eat : MTP jcM (mtM[8]) := ⟨rfl, by decide, by decide +kernel, fun _ => ⟨q1053, qs110⟩, fun h => (by cases h), Or.inl ⟨_, _, q1054, rfl⟩⟩
theorem mwM_stop : MTP jcM (mtM[9]) := ⟨rfl, by decide, by decide +kernel, fun _ => ⟨q1057, qs111⟩, fun h => (by cases h), Or.inl ⟨_, _, q1058, rfl⟩⟩
theorem mwM_fail : MTP jcM (mtM[10]) := ⟨rfl, by decide, by decide +kernel, fun _ => ⟨q1061, qs112⟩, fun h => (by cases h), Or.inl ⟨_, _, q1062, rfl⟩⟩
theorem mwM_exp : MTP jcM (mtM[11]) := ⟨rfl, by decide, by decide +kernel, fun _ => ⟨q1065, qs113⟩, fun h => (by cases h), Or.inl ⟨_, _, q1066, rfl⟩⟩
theorem mwM_isForm : MTP jcM (mtM[12]) := ⟨rfl, by decide, by decide +kernel, fun _ => ⟨q1069, qs114⟩, fun h => (by cases h), Or.inl ⟨_, _, q1070, rfl⟩⟩
theorem mwM_form : MTP jcM (mtM[13]) := ⟨rfl, by decide, by decide +kernel, fun _ => ⟨q1073, qs115⟩, fun h => (by cases h), Or.inl ⟨_, _, q1074, rfl⟩⟩
theorem mwM_enter : MTP jcM (mtM[14]) := ⟨rfl, by decide, by decide +kernel, fun _ => ⟨q1077, qs116⟩, fun h => (by cases h), Or.inl ⟨_, _, q1078, rfl⟩⟩
theorem mwM_make : MTP jcM (mtM[15]) := ⟨rfl, by decide, by decide +kernel, fun _ => ⟨q1081, qs117⟩, fun h => (by cases h), Or.inl ⟨_, _, q1082, rfl⟩⟩
theorem mwM_match : MTP jcM (mtM[16]) := ⟨rfl, by decide, by decide +kernel, fun _ => ⟨q1090, qs118⟩, fun h => (by cases h), Or.inl ⟨_, _, q1091, rfl⟩⟩
theorem mwM_pat : MTP jcM (mtM[17]) := ⟨rfl, by decide, by decide +kernel, fun _ => ⟨q1094, qs119⟩, fun h => (by cases h), Or.inl ⟨_, _, q1095, rfl⟩⟩
theorem mwM_isBare : MTP jcM (mtM[18]) := ⟨rfl, by decide, by decide +kernel, fun _ => ⟨q1098, qs120⟩, fun h => (by cases h), Or.inl ⟨_, _, q1099, rfl⟩⟩
theorem mwM_isName : MTP jcM (mtM[19]) := ⟨rfl, by decide, by decide +kernel, fun _ => ⟨q1102, qs121⟩, fun h => (by cases h), Or.inl ⟨_, _, q1103, rfl⟩⟩
theorem mwM_isOperator : MTP jcM (mtM[20]) := ⟨rfl, by decide, by decide +kernel, fun _ => ⟨q1106, qs122⟩, fun h => (by cases h), Or.inl ⟨_, _, q1107, rfl⟩⟩
theorem mwM_infix : MTP jcM (mtM[21]) := ⟨rfl, by decide, by decide +kernel, fun _ => ⟨q1110, qs123⟩, fun h => (by cases h), Or.inl ⟨_, _, q1111, rfl⟩⟩
theorem mwM_applied : MTP jcM (mtM[22]) := ⟨rfl, by decide, by decide +kernel, fun _ => ⟨q1114, qs124⟩, fun h => (by cases h), Or.inl ⟨_, _, q1115, rfl⟩⟩
theorem mwM_isId : MTP jcM (mtM[23]) := ⟨rfl, by decide, by decide +kernel, fun _ => ⟨q1118, qs125⟩, fun h => (by cases h), Or.inl ⟨_, _, q1119, rfl⟩⟩
theorem mwM_atomicPattern : MTP jcM (mtM[24]) := ⟨rfl, by decide, by decide +kernel, fun _ => ⟨q1122, qs126⟩, fun h => (by cases h), Or.inl ⟨_, _, q1123, rfl⟩⟩
theorem mwM_isConstant : MTP jcM (mtM[25]) := ⟨rfl, by decide, by decide +kernel, fun _ => ⟨q1126, qs127⟩, fun h => (by cases h), Or.inl ⟨_, _, q1127, rfl⟩⟩
theorem mwM_id : MTP jcM (mtM[26]) := ⟨rfl, by decide, by decide +kernel, fun _ => ⟨q1130, qs128⟩, fun h => (by cases h), Or.inl ⟨_, _, q1131, rfl⟩⟩
theorem mwM_recordPattern : MTP jcM (mtM[27]) := ⟨rfl, by decide, by decide +kernel, fun _ => ⟨q1134, qs129⟩, fun h => (by cases h), Or.inl ⟨_, _, q1135, rfl⟩⟩
theorem mwM_field : MTP jcM (mtM[28]) := ⟨rfl, by decide, by decide +kernel, fun _ => ⟨q1138, qs130⟩, fun h => (by cases h), Or.inl ⟨_, _, q1139, rfl⟩⟩
theorem mwM_checkLabel : MTP jcM (mtM[29]) := ⟨rfl, by decide, by decide +kernel, fun _ => ⟨q1142, qs131⟩, fun h => (by cases h), Or.inl ⟨_, _, q1143, rfl⟩⟩
theorem mwM_isLabel : MTP jcM (mtM[30]) := ⟨rfl, by decide, by decide +kernel, fun _ => ⟨q1146, qs132⟩, fun h => (by cases h), Or.inl ⟨_, _, q1147, rfl⟩⟩
theorem mwM_label : MTP jcM (mtM[31]) := ⟨rfl, by decide, by decide +kernel, fun _ => ⟨q1150, qs133⟩, fun h => (by cases h), Or.inl ⟨_, _, q1151, rfl⟩⟩
theorem mwM_need : MTP jcM (mtM[32]) := ⟨rfl, by decide, by decide +kernel, fun _ => ⟨q1154, qs134⟩, fun h => (by cases h), Or.inl ⟨_, _, q1155, rfl⟩⟩
theorem mwM_variable : MTP jcM (mtM[33]) := ⟨rfl, by decide, by decide +kernel, fun _ => ⟨q1158, qs135⟩, fun h => (by cases h), Or.inl ⟨_, _, q1159, rfl⟩⟩
theorem mwM_type : MTP jcM (mtM[34]) := ⟨rfl, by decide, by decide +kernel, fun _ => ⟨q1162, qs136⟩, fun h => (by cases h), Or.inl ⟨_, _, q1163, rfl⟩⟩
theorem mwM_product : MTP jcM (mtM[35]) := ⟨rfl, by decide, by decide +kernel, fun _ => ⟨q1166, qs137⟩, fun h => (by cases h), Or.inl ⟨_, _, q1167, rfl⟩⟩
theorem mwM_appliedType : MTP jcM (mtM[36]) := ⟨rfl, by decide, by decide +kernel, fun _ => ⟨q1170, qs138⟩, fun h => (by cases h), Or.inl ⟨_, _, q1171, rfl⟩⟩
theorem mwM_firstType : MTP jcM (mtM[37]) := ⟨rfl, by decide, by decide +kernel, fun _ => ⟨q1174, qs139⟩, fun h => (by cases h), Or.inl ⟨_, _, q1175, rfl⟩⟩
theorem mwM_recordType : MTP jcM (mtM[38]) := ⟨rfl, by decide, by decide +kernel, fun _ => ⟨q1178, qs140⟩, fun h => (by cases h), Or.inl ⟨_, _, q1179, rfl⟩⟩
theorem mwM_sort : MTP jcM (mtM[39]) := ⟨rfl, by decide, by decide +kernel, fun _ => ⟨q1182, qs141⟩, fun h => (by cases h), Or.inl ⟨_, _, q1183, rfl⟩⟩
theorem mwM_rank : MTP jcM (mtM[40]) := ⟨rfl, by decide, by decide +kernel, fun h => (by cases h), fun _ => q1185, Or.inl ⟨_, _, q1186, rfl⟩⟩
theorem mwM_list : MTP jcM (mtM[41]) := ⟨rfl, by decide, by decide +kernel, fun _ => ⟨q1190, qs142⟩, fun h => (by cases h), Or.inl ⟨_, _, q1191, rfl⟩⟩
theorem mwM_placeOf : MTP jcM (mtM[42]) := ⟨rfl, by decide, by decide +kernel, fun _ => ⟨q1198, qs143⟩, fun h => (by cases h), Or.inl ⟨_, _, q1199, rfl⟩⟩
theorem mwM_built : MTP jcM (mtM[43]) := ⟨rfl, by decide, by decide +kernel, fun _ => ⟨q1202, qs144⟩, fun h => (by cases h), Or.inl ⟨_, _, q1203, rfl⟩⟩
theorem mwM_isConstructor : MTP jcM (mtM[44]) := ⟨rfl, by decide, by decide +kernel, fun _ => ⟨q1206, qs145⟩, fun h => (by cases h), Or.inl ⟨_, _, q1207, rfl⟩⟩
theorem mwM_listOf : MTP jcM (mtM[45]) := ⟨rfl, by decide, by decide +kernel, fun _ => ⟨q1210, qs146⟩, fun h => (by cases h), Or.inl ⟨_, _, q1211, rfl⟩⟩
theorem mwM_tuple : MTP jcM (mtM[46]) := ⟨rfl, by decide, by decide +kernel, fun _ => ⟨q1214, qs147⟩, fun h => (by cases h), Or.inl ⟨_, _, q1215, rfl⟩⟩
theorem mwM_chain : MTP jcM (mtM[47]) := ⟨rfl, by decide, by decide +kernel, fun _ => ⟨q1218, qs148⟩, fun h => (by cases h), Or.inl ⟨_, _, q1219, rfl⟩⟩
theorem mwM_name : MTP jcM (mtM[48]) := ⟨rfl, by decide, by decide +kernel, fun _ => ⟨q1222, qs149⟩, fun h => (by cases h), Or.inl ⟨_, _, q1223, rfl⟩⟩
theorem mwM_couple : MTP jcM (mtM[49]) := ⟨rfl, by decide, by decide +kernel, fun _ => ⟨q1226, qs150⟩, fun h => (by cases h), Or.inl ⟨_, _, q1227, rfl⟩⟩
theorem mwM_listOf_2 : MTP jcM (mtM[50]) := ⟨rfl, by decide, by decide +kernel, fun _ => ⟨q1230, qs151⟩, fun h => (by cases h), Or.inl ⟨_, _, q1231, rfl⟩⟩
theorem mwM_isAtomicPattern : MTP jcM (mtM[51]) := ⟨rfl, by decide, by decide +kernel, fun _ => ⟨q1234, qs152⟩, fun h => (by cases h), Or.inl ⟨_, _, q1235, rfl⟩⟩
theorem mwM_atomic : MTP jcM (mtM[52]) := ⟨rfl, by decide, by decide +kernel, fun _ => ⟨q1238, qs153⟩, fun h => (by cases h), Or.inl ⟨_, _, q1239, rfl⟩⟩
theorem mwM_round : MTP jcM (mtM[53]) := ⟨rfl, by decide, by decide +kernel, fun _ => ⟨q1242, qs154⟩, fun h => (by cases h), Or.inl ⟨_, _, q1243, rfl⟩⟩
theorem mwM_unit : MTP jcM (mtM[54]) := ⟨rfl, by decide, by decide +kernel, fun _ => ⟨q1246, qs155⟩, fun h => (by cases h), Or.inl ⟨_, _, q1247, rfl⟩⟩
theorem mwM_sequence : MTP jcM (mtM[55]) := ⟨rfl, by decide, by decide +kernel, fun _ => ⟨q1250, qs156⟩, fun h => (by cases h), Or.inl ⟨_, _, q1251, rfl⟩⟩
theorem mwM_oneCase : MTP jcM (mtM[56]) := ⟨rfl, by decide, by decide +kernel, fun _ => ⟨q1254, qs157⟩, fun h => (by cases h), Or.inl ⟨_, _, q1255, rfl⟩⟩
theorem mwM_rule : MTP jcM (mtM[57]) := ⟨rfl, by decide, by decide +kernel, fun _ => ⟨q1258, qs158⟩, fun h => (by cases h), Or.inl ⟨_, _, q1259, rfl⟩⟩
theorem mwM_items : MTP jcM (mtM[58]) := ⟨rfl, by decide, by decide +kernel, fun _ => ⟨q1262, qs159⟩, fun h => (by cases h), Or.inl ⟨_, _, q1263, rfl⟩⟩
theorem mwM_record : MTP jcM (mtM[59]) := ⟨rfl, by decide, by decide +kernel, fun _ => ⟨q1266, qs160⟩, fun h => (by cases h), Or.inl ⟨_, _, q1267, rfl⟩⟩
theorem mwM_freshName : MTP jcM (mtM[60]) := ⟨rfl, by decide, by decide +kernel, fun _ => ⟨q1270, qs161⟩, fun h => (by cases h), Or.inl ⟨_, _, q1271, rfl⟩⟩
theorem mwM_undo : MTP jcM (mtM[61]) := ⟨rfl, by decide, by decide +kernel, fun _ => ⟨q1275, qs162⟩, fun h => (by cases h), Or.inl ⟨_, _, q1276, rfl⟩⟩
theorem mwM_isAtomic : MTP jcM (mtM[62]) := ⟨rfl, by decide, by decide +kernel, fun _ => ⟨q1279, qs163⟩, fun h => (by cases h), Or.inl ⟨_, _, q1280, rfl⟩⟩
theorem mwM_checkOperator : MTP jcM (mtM[63]) := ⟨rfl, by decide, by decide +kernel, fun _ => ⟨q1283, qs164⟩, fun h => (by cases h), Or.inl ⟨_, _, q1284, rfl⟩⟩
theorem mwM_bindsFirst : MTP jcM (mtM[64]) := ⟨rfl, by decide, by decide +kernel, fun _ => ⟨q1287, qs165⟩, fun h => (by cases h), Or.inl ⟨_, _, q1288, rfl⟩⟩
theorem mwM_join : MTP jcM (mtM[65]) := ⟨rfl, by decide, by decide +kernel, fun _ => ⟨q1291, qs166⟩, fun h => (by cases h), Or.inl ⟨_, _, q1292, rfl⟩⟩
theorem mwM_choice : MTP jcM (mtM[66]) := ⟨rfl, by decide, by decide +kernel, fun _ => ⟨q1295, qs167⟩, fun h => (by cases h), Or.inl ⟨_, _, q1296, rfl⟩⟩
theorem mwM_loop : MTP jcM (mtM[67]) := ⟨rfl, by decide, by decide +kernel, fun _ => ⟨q1299, qs168⟩, fun h => (by cases h), Or.inl ⟨_, _, q1300, rfl⟩⟩
theorem mwM_val : MTP jcM (mtM[68]) := ⟨rfl, by decide, by decide +kernel, fun _ => ⟨q1303, qs169⟩, fun h => (by cases h), Or.inl ⟨_, _, q1304, rfl⟩⟩
theorem mwM_typeVariables : MTP jcM (mtM[69]) := ⟨rfl, by decide, by decide +kernel, fun _ => ⟨q1307, qs170⟩, fun h => (by cases h), Or.inl ⟨_, _, q1308, rfl⟩⟩
theorem mwM_fun : MTP jcM (mtM[70]) := ⟨rfl, by decide, by decide +kernel, fun _ => ⟨q1311, qs171⟩, fun h => (by cases h), Or.inl ⟨_, _, q1312, rfl⟩⟩
theorem mwM_clause : MTP jcM (mtM[71]) := ⟨rfl, by decide, by decide +kernel, fun _ => ⟨q1315, qs172⟩, fun h => (by cases h), Or.inl ⟨_, _, q1316, rfl⟩⟩
theorem mwM_head : MTP jcM (mtM[72]) := ⟨rfl, by decide, by decide +kernel, fun _ => ⟨q1319, qs173⟩, fun h => (by cases h), Or.inl ⟨_, _, q1320, rfl⟩⟩
theorem mwM_isOperatorAt : MTP jcM (mtM[73]) := ⟨rfl, by decide, by decide +kernel, fun _ => ⟨q1323, qs174⟩, fun h => (by cases h), Or.inl ⟨_, _, q1324, rfl⟩⟩
theorem mwM_isBracketed : MTP jcM (mtM[74]) := ⟨rfl, by decide, by decide +kernel, fun _ => ⟨q1327, qs175⟩, fun h => (by cases h), Or.inr ⟨_, _, _, q1328, rfl⟩⟩
theorem mwM_operator : MTP jcM (mtM[75]) := ⟨rfl, by decide, by decide +kernel, fun _ => ⟨q1331, qs176⟩, fun h => (by cases h), Or.inl ⟨_, _, q1332, rfl⟩⟩
theorem mwM_nest : MTP jcM (mtM[76]) := ⟨rfl, by decide, by decide +kernel, fun _ => ⟨q1335, qs177⟩, fun h => (by cases h), Or.inl ⟨_, _, q1336, rfl⟩⟩
theorem mwM_local : MTP jcM (mtM[77]) := ⟨rfl, by decide, by decide +kernel, fun _ => ⟨q1339, qs178⟩, fun h => (by cases h), Or.inl ⟨_, _, q1340, rfl⟩⟩
theorem mwM_settle : MTP jcM (mtM[78]) := ⟨rfl, by decide, by decide +kernel, fun _ => ⟨q1343, qs179⟩, fun h => (by cases h), Or.inl ⟨_, _, q1344, rfl⟩⟩
theorem mwM_change : MTP jcM (mtM[79]) := ⟨rfl, by decide, by decide +kernel, fun _ => ⟨q1347, qs180⟩, fun h => (by cases h), Or.inl ⟨_, _, q1348, rfl⟩⟩
theorem mwM_abstype : MTP jcM (mtM[80]) := ⟨rfl, by decide, by decide +kernel, fun _ => ⟨q1351, qs181⟩, fun h => (by cases h), Or.inl ⟨_, _, q1352, rfl⟩⟩
theorem mwM_shortConstructor : MTP jcM (mtM[81]) := ⟨rfl, by decide, by decide +kernel, fun _ => ⟨q1355, qs182⟩, fun h => (by cases h), Or.inl ⟨_, _, q1356, rfl⟩⟩
theorem mwM_datatypes : MTP jcM (mtM[82]) := ⟨rfl, by decide, by decide +kernel, fun _ => ⟨q1359, qs183⟩, fun h => (by cases h), Or.inl ⟨_, _, q1360, rfl⟩⟩
theorem mwM_constructors : MTP jcM (mtM[83]) := ⟨rfl, by decide, by decide +kernel, fun _ => ⟨q1363, qs184⟩, fun h => (by cases h), Or.inl ⟨_, _, q1364, rfl⟩⟩
theorem mwM_bound : MTP jcM (mtM[84]) := ⟨rfl, by decide, by decide +kernel, fun _ => ⟨q1367, qs185⟩, fun h => (by cases h), Or.inl ⟨_, _, q1368, rfl⟩⟩
theorem mwM_typeBindings : MTP jcM (mtM[85]) := ⟨rfl, by decide, by decide +kernel, fun _ => ⟨q1371, qs186⟩, fun h => (by cases h), Or.inl ⟨_, _, q1372, rfl⟩⟩
theorem mwM_declaration : MTP jcM (mtM[86]) := ⟨rfl, by decide, by decide +kernel, fun _ => ⟨q1375, qs187⟩, fun h => (by cases h), Or.inl ⟨_, _, q1376, rfl⟩⟩
theorem mwM_datatype : MTP jcM (mtM[87]) := ⟨rfl, by decide, by decide +kernel, fun _ => ⟨q1379, qs188⟩, fun h => (by cases h), Or.inl ⟨_, _, q1380, rfl⟩⟩
theorem mwM_exceptions : MTP jcM (mtM[88]) := ⟨rfl, by decide, by decide +kernel, fun _ => ⟨q1383, qs189⟩, fun h => (by cases h), Or.inl ⟨_, _, q1384, rfl⟩⟩
theorem mwM_opened : MTP jcM (mtM[89]) := ⟨rfl, by decide, by decide +kernel, fun _ => ⟨q1387, qs190⟩, fun h => (by cases h), Or.inl ⟨_, _, q1388, rfl⟩⟩
theorem mwM_changeFixities : MTP jcM (mtM[90]) := ⟨rfl, by decide, by decide +kernel, fun _ => ⟨q1391, qs191⟩, fun h => (by cases h), Or.inl ⟨_, _, q1392, rfl⟩⟩
theorem mwM_number : MTP jcM (mtM[91]) := ⟨rfl, by decide, by decide +kernel, fun _ => ⟨q1395, qs192⟩, fun h => (by cases h), Or.inl ⟨_, _, q1396, rfl⟩⟩
theorem mwM_isPart : MTP jcM (mtM[92]) := ⟨rfl, by decide, by decide +kernel, fun _ => ⟨q1399, qs193⟩, fun h => (by cases h), Or.inl ⟨_, _, q1400, rfl⟩⟩
theorem mwM_parts : MTP jcM (mtM[93]) := ⟨rfl, by decide, by decide +kernel, fun h => (by cases h), fun _ => q1402, Or.inl ⟨_, _, q1403, rfl⟩⟩
theorem mwM_finish : MTP jcM (mtM[94]) := ⟨rfl, by decide, by decide +kernel, fun _ => ⟨q1406, qs194⟩, fun h => (by cases h), Or.inl ⟨_, _, q1407, rfl⟩⟩
theorem mwM_fault : MTP jcM (mtM[95]) := ⟨rfl, by decide, by decide +kernel, fun _ => ⟨q1409, q1410⟩, fun h => (by cases h), Or.inl ⟨_, _, q1411, rfl⟩⟩
theorem mwM_retreat : MTP jcM (mtM[96]) := ⟨rfl, by decide, by decide +kernel, fun _ => ⟨q1413, q1414⟩, fun h => (by cases h), Or.inl ⟨_, _, q1415, rfl⟩⟩
theorem mwM_fixity : MTP jcM (mtM[97]) := ⟨rfl, by decide, by decide +kernel, fun _ => ⟨q1417, q1418⟩, fun h => (by cases h), Or.inl ⟨_, _, q1419, rfl⟩⟩
theorem mwM_nodes : MTP jcM (mtM[98]) := ⟨rfl, by decide, by decide +kernel, fun _ => ⟨q1421, q1422⟩, fun h => (by cases h), Or.inl ⟨_, _, q1423, rfl⟩⟩
theorem mwM_node : MTP jcM (mtM[99]) := ⟨rfl, by decide, by decide +kernel, fun _ => ⟨q1425, q1426⟩, fun h => (by cases h), Or.inl ⟨_, _, q1427, rfl⟩⟩
theorem mwM_isNode : MTP jcM (mtM[100]) := ⟨rfl, by decide, by decide +kernel, fun _ => ⟨q1430, qs195⟩, fun h => (by cases h), Or.inl ⟨_, _, q1431, rfl⟩⟩
theorem mwM_length : MTP jcM (mtM[101]) := ⟨rfl, by decide, by decide +kernel, fun _ => ⟨q1433, q1434⟩, fun h => (by cases h), Or.inl ⟨_, _, q1435, rfl⟩⟩
theorem mwM_isList : MTP jcM (mtM[102]) := ⟨rfl, by decide, by decide +kernel, fun _ => ⟨q1438, qs196⟩, fun h => (by cases h), Or.inl ⟨_, _, q1439, rfl⟩⟩
theorem mwM_item : MTP jcM (mtM[103]) := ⟨rfl, by decide, by decide +kernel, fun _ => ⟨q1441, q1442⟩, fun h => (by cases h), Or.inl ⟨_, _, q1443, rfl⟩⟩
theorem mwM_behind : MTP jcM (mtM[104]) := ⟨rfl, by decide, by decide +kernel, fun _ => ⟨q1445, q1446⟩, fun h => (by cases h), Or.inl ⟨_, _, q1447, rfl⟩⟩
theorem mwM_same : MTP jcM (mtM[105]) := ⟨rfl, by decide, by decide +kernel, fun _ => ⟨q1449, q1450⟩, fun h => (by cases h), Or.inl ⟨_, _, q1451, rfl⟩⟩
theorem mwM_fresh : MTP jcM (mtM[106]) := ⟨rfl, by decide, by decide +kernel, fun _ => ⟨q1453, q1454⟩, fun h => (by cases h), Or.inl ⟨_, _, q1455, rfl⟩⟩
theorem mtM_ok : ∀ e ∈ mtM, MTP jcM e := List.forall_mem_cons.mpr ⟨mwM_token, List.forall_mem_cons.mpr ⟨mwM_clear, List.forall_mem_cons.mpr ⟨mwM_tokens, List.forall_mem_cons.mpr ⟨mwM_parse, List.forall_mem_cons.mpr ⟨mwM_decs, List.forall_mem_cons.mpr ⟨mwM_is, List.forall_mem_cons.mpr ⟨mwM_isDeclaration, List.forall_mem_cons.mpr ⟨mwM_kind, List.forall_mem_cons.mpr ⟨mwM_eat, List.forall_mem_cons.mpr ⟨mwM_stop, List.forall_mem_cons.mpr ⟨mwM_fail, List.forall_mem_cons.mpr ⟨mwM_exp, List.forall_mem_cons.mpr ⟨mwM_isForm, List.forall_mem_cons.mpr ⟨mwM_form, List.forall_mem_cons.mpr ⟨mwM_enter, List.forall_mem_cons.mpr ⟨mwM_make, List.forall_mem_cons.mpr ⟨mwM_match, List.forall_mem_cons.mpr ⟨mwM_pat, List.forall_mem_cons.mpr ⟨mwM_isBare, List.forall_mem_cons.mpr ⟨mwM_isName, List.forall_mem_cons.mpr ⟨mwM_isOperator, List.forall_mem_cons.mpr ⟨mwM_infix, List.forall_mem_cons.mpr ⟨mwM_applied, List.forall_mem_cons.mpr ⟨mwM_isId, List.forall_mem_cons.mpr ⟨mwM_atomicPattern, List.forall_mem_cons.mpr ⟨mwM_isConstant, List.forall_mem_cons.mpr ⟨mwM_id, List.forall_mem_cons.mpr ⟨mwM_recordPattern, List.forall_mem_cons.mpr ⟨mwM_field, List.forall_mem_cons.mpr ⟨mwM_checkLabel, List.forall_mem_cons.mpr ⟨mwM_isLabel, List.forall_mem_cons.mpr ⟨mwM_label, List.forall_mem_cons.mpr ⟨mwM_need, List.forall_mem_cons.mpr ⟨mwM_variable, List.forall_mem_cons.mpr ⟨mwM_type, List.forall_mem_cons.mpr ⟨mwM_product, List.forall_mem_cons.mpr ⟨mwM_appliedType, List.forall_mem_cons.mpr ⟨mwM_firstType, List.forall_mem_cons.mpr ⟨mwM_recordType, List.forall_mem_cons.mpr ⟨mwM_sort, List.forall_mem_cons.mpr ⟨mwM_rank, List.forall_mem_cons.mpr ⟨mwM_list, List.forall_mem_cons.mpr ⟨mwM_placeOf, List.forall_mem_cons.mpr ⟨mwM_built, List.forall_mem_cons.mpr ⟨mwM_isConstructor, List.forall_mem_cons.mpr ⟨mwM_listOf, List.forall_mem_cons.mpr ⟨mwM_tuple, List.forall_mem_cons.mpr ⟨mwM_chain, List.forall_mem_cons.mpr ⟨mwM_name, List.forall_mem_cons.mpr ⟨mwM_couple, List.forall_mem_cons.mpr ⟨mwM_listOf_2, List.forall_mem_cons.mpr ⟨mwM_isAtomicPattern, List.forall_mem_cons.mpr ⟨mwM_atomic, List.forall_mem_cons.mpr ⟨mwM_round, List.forall_mem_cons.mpr ⟨mwM_unit, List.forall_mem_cons.mpr ⟨mwM_sequence, List.forall_mem_cons.mpr ⟨mwM_oneCase, List.forall_mem_cons.mpr ⟨mwM_rule, List.forall_mem_cons.mpr ⟨mwM_items, List.forall_mem_cons.mpr ⟨mwM_record, List.forall_mem_cons.mpr ⟨mwM_freshName, List.forall_mem_cons.mpr ⟨mwM_undo, List.forall_mem_cons.mpr ⟨mwM_isAtomic, List.forall_mem_cons.mpr ⟨mwM_checkOperator, List.forall_mem_cons.mpr ⟨mwM_bindsFirst, List.forall_mem_cons.mpr ⟨mwM_join, List.forall_mem_cons.mpr ⟨mwM_choice, List.forall_mem_cons.mpr ⟨mwM_loop, List.forall_mem_cons.mpr ⟨mwM_val, List.forall_mem_cons.mpr ⟨mwM_typeVariables, List.forall_mem_cons.mpr ⟨mwM_fun, List.forall_mem_cons.mpr ⟨mwM_clause, List.forall_mem_cons.mpr ⟨mwM_head, List.forall_mem_cons.mpr ⟨mwM_isOperatorAt, List.forall_mem_cons.mpr ⟨mwM_isBracketed, List.forall_mem_cons.mpr ⟨mwM_operator, List.forall_mem_cons.mpr ⟨mwM_nest, List.forall_mem_cons.mpr ⟨mwM_local, List.forall_mem_cons.mpr ⟨mwM_settle, List.forall_mem_cons.mpr ⟨mwM_change, List.forall_mem_cons.mpr ⟨mwM_abstype, List.forall_mem_cons.mpr ⟨mwM_shortConstructor, List.forall_mem_cons.mpr ⟨mwM_datatypes, List.forall_mem_cons.mpr ⟨mwM_constructors, List.forall_mem_cons.mpr ⟨mwM_bound, List.forall_mem_cons.mpr ⟨mwM_typeBindings, List.forall_mem_cons.mpr ⟨mwM_declaration, List.forall_mem_cons.mpr ⟨mwM_datatype, List.forall_mem_cons.mpr ⟨mwM_exceptions, List.forall_mem_cons.mpr ⟨mwM_opened, List.forall_mem_cons.mpr ⟨mwM_changeFixities, List.forall_mem_cons.mpr ⟨mwM_number, List.forall_mem_cons.mpr ⟨mwM_isPart, List.forall_mem_cons.mpr ⟨mwM_parts, List.forall_mem_cons.mpr ⟨mwM_finish, List.forall_mem_cons.mpr ⟨mwM_fault, List.forall_mem_cons.mpr ⟨mwM_retreat, List.forall_mem_cons.mpr ⟨mwM_fixity, List.forall_mem_cons.mpr ⟨mwM_nodes, List.forall_mem_cons.mpr ⟨mwM_node, List.forall_mem_cons.mpr ⟨mwM_isNode, List.forall_mem_cons.mpr ⟨mwM_length, List.forall_mem_cons.mpr ⟨mwM_isList, List.forall_mem_cons.mpr ⟨mwM_item, List.forall_mem_cons.mpr ⟨mwM_behind, List.forall_mem_cons.mpr ⟨mwM_same, List.forall_mem_cons.mpr ⟨mwM_fresh, fun _ h => absurd h List.not_mem_nil⟩⟩⟩⟩⟩⟩⟩⟩⟩⟩⟩⟩⟩⟩⟩⟩⟩⟩⟩⟩⟩⟩⟩⟩⟩⟩⟩⟩⟩⟩⟩⟩⟩⟩⟩⟩⟩⟩⟩⟩⟩⟩⟩⟩⟩⟩⟩⟩⟩⟩⟩⟩⟩⟩⟩⟩⟩⟩⟩⟩⟩⟩⟩⟩⟩⟩⟩⟩⟩⟩⟩⟩⟩⟩⟩⟩⟩⟩⟩⟩⟩⟩⟩⟩⟩⟩⟩⟩⟩⟩⟩⟩⟩⟩⟩⟩⟩⟩⟩⟩⟩⟩⟩⟩⟩⟩⟩
theorem mkM_70 : MLP jcM miM (70, 0, 11, 2, false) := fun _ => ⟨_, _, _, (by rfl), q1059⟩
theorem mkM_74 : MLP jcM miM (74, 0, 6, 1, true) := fun _ => ⟨_, _, _, (by rfl), q1039⟩
theorem mkM_78 : MLP jcM miM (78, 0, 10, 0, false) := fun _ => ⟨_, _, _, (by rfl), q1055⟩
theorem mkM_98 : MLP jcM miM (98, 0, 43, 1, true) := fun _ => ⟨_, _, _, (by rfl), q1196⟩
theorem mkM_102 : MLP jcM miM (102, 0, 16, 5, true) := fun _ => ⟨_, _, _, (by rfl), q1079⟩
theorem mkM_106 : MLP jcM miM (106, 0, 46, 1, true) := fun _ => ⟨_, _, _, (by rfl), q1208⟩
theorem mkM_109 : MLP jcM miM (109, 0, 51, 2, true) := fun _ => ⟨_, _, _, (by rfl), q1228⟩
theorem mkM_112 : MLP jcM miM (112, 0, 42, 1, true) := fun _ => ⟨_, _, _, (by rfl), q1188⟩
theorem mkM_115 : MLP jcM miM (115, 0, 58, 3, true) := fun _ => ⟨_, _, _, (by rfl), q1256⟩
theorem mkM_119 : MLP jcM miM (119, 0, 34, 2, true) := fun _ => ⟨_, _, _, (by rfl), q1156⟩
theorem mkM_122 : MLP jcM miM (122, 0, 57, 4, true) := fun _ => ⟨_, _, _, (by rfl), q1252⟩
theorem mkM_126 : MLP jcM miM (126, 0, 49, 2, true) := fun _ => ⟨_, _, _, (by rfl), q1220⟩
theorem mkM_129 : MLP jcM miM (129, 0, 50, 4, true) := fun _ => ⟨_, _, _, (by rfl), q1224⟩
theorem mkM_136 : MLP jcM miM (136, 0, 8, 0, true) := fun _ => ⟨_, _, _, (by rfl), q1047⟩
theorem mkM_139 : MLP jcM miM (139, 0, 20, 0, true) := fun _ => ⟨_, _, _, (by rfl), q1100⟩
theorem mkM_143 : MLP jcM miM (143, 0, 21, 0, true) := fun _ => ⟨_, _, _, (by rfl), q1104⟩
theorem mkM_146 : MLP jcM miM (146, 0, 9, 1, true) := fun _ => ⟨_, _, _, (by rfl), q1051⟩
theorem mkM_152 : MLP jcM miM (152, 0, 31, 0, true) := fun _ => ⟨_, _, _, (by rfl), q1144⟩
theorem mkM_159 : MLP jcM miM (159, 0, 13, 0, true) := fun _ => ⟨_, _, _, (by rfl), q1067⟩
theorem mkM_162 : MLP jcM miM (162, 0, 14, 0, true) := fun _ => ⟨_, _, _, (by rfl), q1071⟩
theorem mkM_165 : MLP jcM miM (165, 0, 22, 1, true) := fun _ => ⟨_, _, _, (by rfl), q1108⟩
theorem mkM_169 : MLP jcM miM (169, 0, 35, 0, true) := fun _ => ⟨_, _, _, (by rfl), q1160⟩
theorem mkM_172 : MLP jcM miM (172, 0, 67, 4, true) := fun _ => ⟨_, _, _, (by rfl), q1293⟩
theorem mkM_175 : MLP jcM miM (175, 0, 15, 0, false) := fun _ => ⟨_, _, _, (by rfl), q1075⟩
theorem mkM_178 : MLP jcM miM (178, 0, 17, 0, true) := fun _ => ⟨_, _, _, (by rfl), q1088⟩
theorem mkM_181 : MLP jcM miM (181, 0, 12, 0, true) := fun _ => ⟨_, _, _, (by rfl), q1063⟩
theorem mkM_184 : MLP jcM miM (184, 0, 33, 1, false) := fun _ => ⟨_, _, _, (by rfl), q1152⟩
theorem mkM_187 : MLP jcM miM (187, 0, 68, 3, true) := fun _ => ⟨_, _, _, (by rfl), q1297⟩
theorem mkM_190 : MLP jcM miM (190, 0, 61, 0, true) := fun _ => ⟨_, _, _, (by rfl), q1268⟩
theorem mkM_193 : MLP jcM miM (193, 0, 55, 2, true) := fun _ => ⟨_, _, _, (by rfl), q1244⟩
theorem mkM_196 : MLP jcM miM (196, 0, 18, 0, true) := fun _ => ⟨_, _, _, (by rfl), q1092⟩
theorem mkM_199 : MLP jcM miM (199, 0, 23, 0, true) := fun _ => ⟨_, _, _, (by rfl), q1112⟩
theorem mkM_202 : MLP jcM miM (202, 0, 53, 0, true) := fun _ => ⟨_, _, _, (by rfl), q1236⟩
theorem mkM_205 : MLP jcM miM (205, 0, 63, 0, true) := fun _ => ⟨_, _, _, (by rfl), q1277⟩
theorem mkM_208 : MLP jcM miM (208, 0, 64, 2, false) := fun _ => ⟨_, _, _, (by rfl), q1281⟩
theorem mkM_211 : MLP jcM miM (211, 0, 65, 2, true) := fun _ => ⟨_, _, _, (by rfl), q1285⟩
theorem mkM_215 : MLP jcM miM (215, 0, 66, 1, false) := fun _ => ⟨_, _, _, (by rfl), q1289⟩
theorem mkM_219 : MLP jcM miM (219, 0, 26, 0, true) := fun _ => ⟨_, _, _, (by rfl), q1124⟩
theorem mkM_222 : MLP jcM miM (222, 0, 24, 0, true) := fun _ => ⟨_, _, _, (by rfl), q1116⟩
theorem mkM_225 : MLP jcM miM (225, 0, 27, 1, true) := fun _ => ⟨_, _, _, (by rfl), q1128⟩
theorem mkM_228 : MLP jcM miM (228, 0, 54, 0, true) := fun _ => ⟨_, _, _, (by rfl), q1240⟩
theorem mkM_231 : MLP jcM miM (231, 0, 59, 1, false) := fun _ => ⟨_, _, _, (by rfl), q1260⟩
theorem mkM_234 : MLP jcM miM (234, 0, 48, 3, true) := fun _ => ⟨_, _, _, (by rfl), q1216⟩
theorem mkM_238 : MLP jcM miM (238, 0, 60, 0, true) := fun _ => ⟨_, _, _, (by rfl), q1264⟩
theorem mkM_241 : MLP jcM miM (241, 0, 32, 0, true) := fun _ => ⟨_, _, _, (by rfl), q1148⟩
theorem mkM_244 : MLP jcM miM (244, 0, 5, 1, true) := fun _ => ⟨_, _, _, (by rfl), q1035⟩
theorem mkM_247 : MLP jcM miM (247, 0, 62, 1, false) := fun _ => ⟨_, _, _, (by rfl), q1273⟩
theorem mkM_250 : MLP jcM miM (250, 0, 56, 2, true) := fun _ => ⟨_, _, _, (by rfl), q1248⟩
theorem mkM_253 : MLP jcM miM (253, 0, 47, 3, true) := fun _ => ⟨_, _, _, (by rfl), q1212⟩
theorem mkM_256 : MLP jcM miM (256, 0, 30, 1, false) := fun _ => ⟨_, _, _, (by rfl), q1140⟩
theorem mkM_259 : MLP jcM miM (259, 0, 40, 1, false) := fun _ => ⟨_, _, _, (by rfl), q1180⟩
theorem mkM_262 : MLP jcM miM (262, 0, 19, 0, true) := fun _ => ⟨_, _, _, (by rfl), q1096⟩
theorem mkM_265 : MLP jcM miM (265, 0, 25, 0, true) := fun _ => ⟨_, _, _, (by rfl), q1120⟩
theorem mkM_268 : MLP jcM miM (268, 0, 52, 0, true) := fun _ => ⟨_, _, _, (by rfl), q1232⟩
theorem mkM_271 : MLP jcM miM (271, 0, 28, 0, true) := fun _ => ⟨_, _, _, (by rfl), q1132⟩
theorem mkM_274 : MLP jcM miM (274, 0, 29, 1, true) := fun _ => ⟨_, _, _, (by rfl), q1136⟩
theorem mkM_277 : MLP jcM miM (277, 0, 36, 0, true) := fun _ => ⟨_, _, _, (by rfl), q1164⟩
theorem mkM_280 : MLP jcM miM (280, 0, 37, 0, true) := fun _ => ⟨_, _, _, (by rfl), q1168⟩
theorem mkM_283 : MLP jcM miM (283, 0, 45, 0, true) := fun _ => ⟨_, _, _, (by rfl), q1204⟩
theorem mkM_286 : MLP jcM miM (286, 0, 38, 0, true) := fun _ => ⟨_, _, _, (by rfl), q1172⟩
theorem mkM_289 : MLP jcM miM (289, 0, 44, 2, true) := fun _ => ⟨_, _, _, (by rfl), q1200⟩
theorem mkM_292 : MLP jcM miM (292, 0, 39, 0, true) := fun _ => ⟨_, _, _, (by rfl), q1176⟩
theorem mkM_295 : MLP jcM miM (295, 0, 7, 0, true) := fun _ => ⟨_, _, _, (by rfl), q1043⟩
theorem mkM_298 : MLP jcM miM (298, 0, 69, 1, true) := fun _ => ⟨_, _, _, (by rfl), q1301⟩
theorem mkM_301 : MLP jcM miM (301, 0, 71, 1, true) := fun _ => ⟨_, _, _, (by rfl), q1309⟩
theorem mkM_304 : MLP jcM miM (304, 0, 78, 1, true) := fun _ => ⟨_, _, _, (by rfl), q1337⟩
theorem mkM_307 : MLP jcM miM (307, 0, 81, 1, true) := fun _ => ⟨_, _, _, (by rfl), q1349⟩
theorem mkM_310 : MLP jcM miM (310, 0, 87, 2, true) := fun _ => ⟨_, _, _, (by rfl), q1373⟩
theorem mkM_313 : MLP jcM miM (313, 0, 86, 0, true) := fun _ => ⟨_, _, _, (by rfl), q1369⟩
theorem mkM_316 : MLP jcM miM (316, 0, 88, 1, true) := fun _ => ⟨_, _, _, (by rfl), q1377⟩
theorem mkM_319 : MLP jcM miM (319, 0, 89, 0, true) := fun _ => ⟨_, _, _, (by rfl), q1381⟩
theorem mkM_322 : MLP jcM miM (322, 0, 90, 0, true) := fun _ => ⟨_, _, _, (by rfl), q1385⟩
theorem mkM_325 : MLP jcM miM (325, 0, 91, 1, false) := fun _ => ⟨_, _, _, (by rfl), q1389⟩
theorem mkM_328 : MLP jcM miM (328, 0, 70, 1, true) := fun _ => ⟨_, _, _, (by rfl), q1305⟩
theorem mkM_331 : MLP jcM miM (331, 0, 82, 0, true) := fun _ => ⟨_, _, _, (by rfl), q1353⟩
theorem mkM_334 : MLP jcM miM (334, 0, 85, 0, true) := fun _ => ⟨_, _, _, (by rfl), q1365⟩
theorem mkM_337 : MLP jcM miM (337, 0, 84, 0, true) := fun _ => ⟨_, _, _, (by rfl), q1361⟩
theorem mkM_340 : MLP jcM miM (340, 0, 83, 3, true) := fun _ => ⟨_, _, _, (by rfl), q1357⟩
theorem mkM_343 : MLP jcM miM (343, 0, 79, 2, false) := fun _ => ⟨_, _, _, (by rfl), q1341⟩
theorem mkM_346 : MLP jcM miM (346, 0, 80, 2, false) := fun _ => ⟨_, _, _, (by rfl), q1345⟩
theorem mkM_349 : MLP jcM miM (349, 0, 74, 1, true) := fun _ => ⟨_, _, _, (by rfl), q1321⟩
theorem mkM_352 : MLP jcM miM (352, 0, 75, 0, true) := fun _ => ⟨_, _, _, (by rfl), q1325⟩
theorem mkM_355 : MLP jcM miM (355, 0, 76, 0, true) := fun _ => ⟨_, _, _, (by rfl), q1329⟩
theorem mkM_358 : MLP jcM miM (358, 0, 73, 0, true) := fun _ => ⟨_, _, _, (by rfl), q1317⟩
theorem mkM_367 : MLP jcM miM (367, 0, 72, 1, true) := fun _ => ⟨_, _, _, (by rfl), q1313⟩
theorem mkM_370 : MLP jcM miM (370, 0, 77, 2, true) := fun _ => ⟨_, _, _, (by rfl), q1333⟩
theorem mkM_373 : MLP jcM miM (373, 0, 92, 1, false) := fun _ => ⟨_, _, _, (by rfl), q1393⟩
theorem mkM_383 : MLP jcM miM (383, 0, 93, 2, true) := fun _ => ⟨_, _, _, (by rfl), q1397⟩
theorem mkM_386 : MLP jcM miM (386, 0, 95, 0, false) := fun _ => ⟨_, _, _, (by rfl), q1404⟩
theorem mkM_389 : MLP jcM miM (389, 0, 101, 1, true) := fun _ => ⟨_, _, _, (by rfl), q1428⟩
theorem mkM_392 : MLP jcM miM (392, 0, 103, 1, true) := fun _ => ⟨_, _, _, (by rfl), q1436⟩
theorem mlM_ok : ∀ e ∈ mlM, MLP jcM miM e := List.forall_mem_cons.mpr ⟨mkM_70, List.forall_mem_cons.mpr ⟨mkM_74, List.forall_mem_cons.mpr ⟨mkM_78, List.forall_mem_cons.mpr ⟨(fun h => (by cases h)), List.forall_mem_cons.mpr ⟨(fun h => (by cases h)), List.forall_mem_cons.mpr ⟨mkM_98, List.forall_mem_cons.mpr ⟨mkM_102, List.forall_mem_cons.mpr ⟨mkM_106, List.forall_mem_cons.mpr ⟨mkM_109, List.forall_mem_cons.mpr ⟨mkM_112, List.forall_mem_cons.mpr ⟨mkM_115, List.forall_mem_cons.mpr ⟨mkM_119, List.forall_mem_cons.mpr ⟨mkM_122, List.forall_mem_cons.mpr ⟨mkM_126, List.forall_mem_cons.mpr ⟨mkM_129, List.forall_mem_cons.mpr ⟨mkM_136, List.forall_mem_cons.mpr ⟨mkM_139, List.forall_mem_cons.mpr ⟨mkM_143, List.forall_mem_cons.mpr ⟨mkM_146, List.forall_mem_cons.mpr ⟨mkM_152, List.forall_mem_cons.mpr ⟨mkM_159, List.forall_mem_cons.mpr ⟨mkM_162, List.forall_mem_cons.mpr ⟨mkM_165, List.forall_mem_cons.mpr ⟨mkM_169, List.forall_mem_cons.mpr ⟨mkM_172, List.forall_mem_cons.mpr ⟨mkM_175, List.forall_mem_cons.mpr ⟨mkM_178, List.forall_mem_cons.mpr ⟨mkM_181, List.forall_mem_cons.mpr ⟨mkM_184, List.forall_mem_cons.mpr ⟨mkM_187, List.forall_mem_cons.mpr ⟨mkM_190, List.forall_mem_cons.mpr ⟨mkM_193, List.forall_mem_cons.mpr ⟨mkM_196, List.forall_mem_cons.mpr ⟨mkM_199, List.forall_mem_cons.mpr ⟨mkM_202, List.forall_mem_cons.mpr ⟨mkM_205, List.forall_mem_cons.mpr ⟨mkM_208, List.forall_mem_cons.mpr ⟨mkM_211, List.forall_mem_cons.mpr ⟨mkM_215, List.forall_mem_cons.mpr ⟨mkM_219, List.forall_mem_cons.mpr ⟨mkM_222, List.forall_mem_cons.mpr ⟨mkM_225, List.forall_mem_cons.mpr ⟨mkM_228, List.forall_mem_cons.mpr ⟨mkM_231, List.forall_mem_cons.mpr ⟨mkM_234, List.forall_mem_cons.mpr ⟨mkM_238, List.forall_mem_cons.mpr ⟨mkM_241, List.forall_mem_cons.mpr ⟨mkM_244, List.forall_mem_cons.mpr ⟨mkM_247, List.forall_mem_cons.mpr ⟨mkM_250, List.forall_mem_cons.mpr ⟨mkM_253, List.forall_mem_cons.mpr ⟨mkM_256, List.forall_mem_cons.mpr ⟨mkM_259, List.forall_mem_cons.mpr ⟨mkM_262, List.forall_mem_cons.mpr ⟨mkM_265, List.forall_mem_cons.mpr ⟨mkM_268, List.forall_mem_cons.mpr ⟨mkM_271, List.forall_mem_cons.mpr ⟨mkM_274, List.forall_mem_cons.mpr ⟨mkM_277, List.forall_mem_cons.mpr ⟨mkM_280, List.forall_mem_cons.mpr ⟨mkM_283, List.forall_mem_cons.mpr ⟨mkM_286, List.forall_mem_cons.mpr ⟨mkM_289, List.forall_mem_cons.mpr ⟨mkM_292, List.forall_mem_cons.mpr ⟨mkM_295, List.forall_mem_cons.mpr ⟨mkM_298, List.forall_mem_cons.mpr ⟨mkM_301, List.forall_mem_cons.mpr ⟨mkM_304, List.forall_mem_cons.mpr ⟨mkM_307, List.forall_mem_cons.mpr ⟨mkM_310, List.forall_mem_cons.mpr ⟨mkM_313, List.forall_mem_cons.mpr ⟨mkM_316, List.forall_mem_cons.mpr ⟨mkM_319, List.forall_mem_cons.mpr ⟨mkM_322, List.forall_mem_cons.mpr ⟨mkM_325, List.forall_mem_cons.mpr ⟨mkM_328, List.forall_mem_cons.mpr ⟨mkM_331, List.forall_mem_cons.mpr ⟨mkM_334, List.forall_mem_cons.mpr ⟨mkM_337, List.forall_mem_cons.mpr ⟨mkM_340, List.forall_mem_cons.mpr ⟨mkM_343, List.forall_mem_cons.mpr ⟨mkM_346, List.forall_mem_cons.mpr ⟨mkM_349, List.forall_mem_cons.mpr ⟨mkM_352, List.forall_mem_cons.mpr ⟨mkM_355, List.forall_mem_cons.mpr ⟨mkM_358, List.forall_mem_cons.mpr ⟨mkM_367, List.forall_mem_cons.mpr ⟨mkM_370, List.forall_mem_cons.mpr ⟨mkM_373, List.forall_mem_cons.mpr ⟨mkM_383, List.forall_mem_cons.mpr ⟨mkM_386, List.forall_mem_cons.mpr ⟨mkM_389, List.forall_mem_cons.mpr ⟨mkM_392, fun _ h => absurd h List.not_mem_nil⟩⟩⟩⟩⟩⟩⟩⟩⟩⟩⟩⟩⟩⟩⟩⟩⟩⟩⟩⟩⟩⟩⟩⟩⟩⟩⟩⟩⟩⟩⟩⟩⟩⟩⟩⟩⟩⟩⟩⟩⟩⟩⟩⟩⟩⟩⟩⟩⟩⟩⟩⟩⟩⟩⟩⟩⟩⟩⟩⟩⟩⟩⟩⟩⟩⟩⟩⟩⟩⟩⟩⟩⟩⟩⟩⟩⟩⟩⟩⟩⟩⟩⟩⟩⟩⟩⟩⟩⟩⟩⟩⟩⟩
theorem slM_ok : ∀ e ∈ slM, SLP jcM miM e := List.forall_mem_cons.mpr ⟨⟨_, _, _, (by rfl), q1184⟩, List.forall_mem_cons.mpr ⟨⟨_, _, _, (by rfl), q1401⟩, fun _ h => absurd h List.not_mem_nil⟩⟩
theorem miM_ok : MIok jcM cfM miM := by
  refine ⟨fun t y ws maxL np rt inst h => mtM_ok _ (alook_mem h), q201, (by unfold notMH; decide +kernel), fun n t np rt h => mlM_ok _ (alook_mem h) rfl, fun n t np rt h => slM_ok _ (alook_mem h)⟩
