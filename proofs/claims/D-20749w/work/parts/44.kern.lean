/-! The kernel: its bytes, a row for each place that is reached (printed by gen/chip4.py, kern.py) -/
set_option maxRecDepth 100000
set_option maxHeartbeats 4000000
/-- the kernel: its bytes -/
def KB_0 : List Nat := [0, 0, 0, 0, 0, 0, 0, 0, 211, 1, 201, 0, 0, 0, 0, 0, 0, 0, 0, 0, 0, 0, 0, 0, 0, 0, 0, 0, 0, 0, 0, 0, 0, 0, 0, 0, 0, 0, 0, 0, 0, 0, 0, 0, 0, 0, 0, 0, 0, 0, 0, 0, 0, 0, 0, 0, 0, 0, 0, 0, 0, 0, 0, 0]
def KB_1 : List Nat := [195, 0, 1, 195, 5, 1, 195, 10, 1, 195, 15, 1, 195, 20, 1, 195, 25, 1, 195, 30, 1, 195, 35, 1, 195, 65, 1, 195, 103, 1, 195, 128, 1, 195, 138, 1, 195, 157, 1, 195, 183, 1, 195, 195, 1, 195, 220, 1, 195, 4, 2, 195, 10, 2, 195, 14, 2, 195, 46, 2, 195, 79, 2, 195]
def KB_2 : List Nat := [119, 2, 195, 139, 2, 195, 175, 2, 195, 196, 2, 195, 205, 2, 195, 11, 3, 195, 50, 3, 195, 146, 3, 195, 165, 3, 195, 204, 3, 195, 0, 4, 195, 21, 4, 195, 121, 4, 195, 210, 4, 195, 214, 4, 195, 218, 4, 195, 38, 5, 195, 56, 5, 195, 69, 5, 195, 80, 5, 195, 89, 5, 195, 112]
def KB_3 : List Nat := [5, 195, 118, 5, 195, 139, 5, 195, 162, 5, 195, 166, 5, 195, 171, 5, 195, 174, 5, 195, 215, 5, 195, 4, 6, 0, 0, 0, 0, 0, 0, 0, 0, 0, 0, 0, 0, 0, 0, 0, 0, 0, 0, 0, 0, 0, 0, 0, 0, 0, 0, 0, 0, 0, 0, 0, 0, 0, 0, 0, 0, 0, 0, 0]
def KB_4 : List Nat := [62, 3, 195, 12, 6, 62, 1, 195, 12, 6, 62, 2, 195, 12, 6, 62, 4, 195, 12, 6, 62, 5, 195, 12, 6, 62, 6, 195, 12, 6, 62, 7, 195, 12, 6, 227, 94, 35, 86, 35, 78, 35, 70, 35, 227, 229, 183, 237, 82, 225, 218, 67, 0, 229, 80, 89, 235, 183, 237, 82, 225, 218, 67, 0]
def KB_5 : List Nat := [201, 227, 94, 35, 86, 35, 78, 35, 70, 35, 227, 124, 238, 128, 103, 229, 183, 237, 82, 225, 218, 67, 0, 229, 80, 89, 235, 183, 237, 82, 225, 218, 67, 0, 124, 238, 128, 103, 201, 227, 94, 35, 86, 35, 78, 35, 70, 35, 227, 183, 237, 82, 229, 80, 89, 235, 183, 237, 82, 225, 218, 70, 0, 201]
def KB_6 : List Nat := [229, 235, 183, 237, 82, 225, 218, 70, 0, 201, 124, 181, 202, 76, 0, 43, 43, 43, 43, 126, 183, 35, 35, 35, 35, 202, 15, 6, 201, 225, 78, 35, 94, 35, 86, 35, 229, 221, 229, 225, 213, 17, 4, 0, 25, 94, 35, 86, 235, 209, 13, 32, 243, 25, 201, 124, 238, 128, 103, 122, 238, 128, 87, 183]
def KB_7 : List Nat := [237, 82, 201, 68, 77, 33, 0, 0, 62, 16, 41, 218, 64, 0, 203, 35, 203, 18, 48, 4, 9, 218, 64, 0, 61, 32, 239, 201, 124, 170, 245, 205, 55, 6, 235, 205, 55, 6, 205, 106, 0, 241, 183, 250, 244, 1, 203, 124, 194, 64, 0, 201, 235, 33, 0, 0, 183, 237, 82, 124, 181, 200, 203, 124]
def KB_8 : List Nat := [202, 64, 0, 201, 205, 65, 6, 96, 105, 201, 205, 65, 6, 201, 122, 183, 250, 73, 0, 179, 202, 73, 0, 203, 124, 40, 13, 205, 55, 6, 25, 43, 205, 65, 6, 96, 105, 195, 58, 6, 205, 65, 6, 96, 105, 201, 122, 183, 250, 73, 0, 179, 202, 73, 0, 203, 124, 40, 16, 205, 55, 6, 213, 205]
def KB_9 : List Nat := [65, 6, 209, 124, 181, 200, 235, 183, 237, 82, 201, 205, 65, 6, 201, 227, 70, 35, 78, 35, 227, 124, 183, 32, 26, 125, 184, 56, 22, 121, 189, 56, 18, 125, 183, 40, 7, 71, 203, 58, 203, 27, 16, 250, 123, 230, 1, 111, 38, 0, 201, 33, 0, 0, 201, 209, 205, 100, 6, 205, 107, 6, 125, 225]
def KB_10 : List Nat := [213, 205, 123, 6, 125, 179, 111, 124, 178, 103, 201, 209, 205, 100, 6, 205, 107, 6, 227, 205, 107, 6, 125, 225, 77, 225, 213, 185, 40, 2, 48, 14, 245, 205, 123, 6, 125, 179, 111, 124, 178, 103, 241, 60, 24, 237, 201, 225, 94, 35, 86, 35, 229, 33, 2, 0, 25, 57, 94, 35, 86, 122, 179, 202]
def KB_11 : List Nat := [76, 0, 213, 201, 225, 94, 22, 0, 35, 229, 25, 227, 201, 225, 94, 35, 86, 35, 78, 35, 70, 35, 34, 236, 0, 42, 226, 0, 183, 237, 82, 218, 50, 6, 34, 226, 0, 42, 228, 0, 35, 34, 228, 0, 221, 229, 221, 33, 0, 0, 221, 57, 213, 11, 11, 33, 0, 0, 183, 237, 66, 57, 249, 54]
def KB_12 : List Nat := [0, 84, 93, 19, 11, 237, 176, 42, 236, 0, 233, 34, 238, 0, 221, 94, 254, 221, 86, 255, 42, 226, 0, 25, 34, 226, 0, 42, 228, 0, 43, 34, 228, 0, 221, 249, 221, 225, 209, 33, 0, 0, 57, 9, 249, 213, 42, 238, 0, 201, 225, 126, 35, 94, 35, 86, 35, 34, 236, 0, 79, 6, 0, 221]
def KB_13 : List Nat := [229, 225, 9, 34, 238, 0, 78, 35, 70, 3, 96, 105, 205, 148, 0, 235, 42, 226, 0, 183, 237, 82, 218, 30, 6, 34, 226, 0, 221, 110, 254, 221, 102, 255, 25, 221, 117, 254, 221, 116, 255, 122, 179, 202, 142, 3, 66, 75, 33, 0, 0, 183, 237, 82, 57, 249, 235, 42, 238, 0, 35, 35, 126, 115]
def KB_14 : List Nat := [50, 240, 0, 35, 126, 114, 50, 241, 0, 42, 240, 0, 237, 176, 42, 236, 0, 233, 68, 77, 33, 0, 0, 62, 16, 41, 203, 35, 203, 18, 48, 1, 9, 61, 32, 245, 201, 227, 78, 35, 70, 35, 126, 35, 50, 240, 0, 126, 35, 50, 241, 0, 227, 120, 177, 40, 4, 197, 237, 176, 193, 42, 240, 0]
def KB_15 : List Nat := [183, 237, 66, 124, 181, 200, 68, 77, 235, 195, 136, 6, 227, 78, 35, 70, 35, 227, 229, 33, 4, 0, 9, 235, 42, 232, 0, 183, 237, 82, 218, 20, 6, 34, 232, 0, 42, 230, 0, 54, 1, 35, 54, 0, 35, 54, 0, 35, 54, 0, 35, 235, 225, 115, 35, 114, 235, 205, 136, 6, 34, 230, 0, 201]
def KB_16 : List Nat := [229, 94, 35, 86, 235, 205, 97, 0, 43, 43, 43, 43, 54, 0, 225, 54, 0, 35, 54, 0, 201, 209, 193, 227, 124, 181, 202, 76, 0, 237, 67, 240, 0, 213, 229, 33, 40, 0, 9, 218, 20, 6, 235, 42, 232, 0, 183, 237, 82, 218, 20, 6, 34, 232, 0, 42, 230, 0, 229, 25, 34, 230, 0, 209]
def KB_17 : List Nat := [193, 235, 34, 238, 0, 235, 17, 25, 6, 43, 114, 43, 115, 43, 112, 43, 113, 43, 54, 0, 43, 54, 0, 235, 42, 238, 0, 115, 35, 114, 35, 237, 91, 240, 0, 115, 35, 114, 35, 54, 0, 35, 54, 0, 209, 225, 237, 75, 238, 0, 113, 35, 112, 211, 7, 213, 201, 94, 35, 86, 122, 179, 202, 76]
def KB_18 : List Nat := [0, 237, 83, 240, 0, 193, 225, 197, 237, 75, 234, 0, 113, 35, 112, 96, 105, 221, 229, 237, 115, 238, 0, 237, 91, 238, 0, 115, 35, 114, 35, 237, 91, 226, 0, 115, 35, 114, 35, 237, 91, 228, 0, 115, 35, 114, 42, 240, 0, 34, 234, 0, 94, 35, 86, 35, 237, 83, 238, 0, 94, 35, 86, 35]
def KB_19 : List Nat := [237, 83, 226, 0, 94, 35, 86, 237, 83, 228, 0, 237, 123, 238, 0, 221, 225, 201, 219, 6, 119, 201, 125, 211, 3, 201, 175, 50, 243, 0, 122, 183, 194, 67, 0, 123, 254, 41, 210, 67, 0, 50, 242, 0, 6, 0, 197, 17, 10, 0, 205, 65, 6, 125, 96, 105, 193, 245, 4, 124, 181, 32, 239, 58]
def KB_20 : List Nat := [243, 0, 128, 79, 58, 242, 0, 145, 56, 10, 40, 8, 79, 62, 32, 211, 3, 13, 32, 249, 58, 243, 0, 183, 40, 4, 62, 45, 211, 3, 241, 198, 48, 211, 3, 16, 249, 201, 175, 203, 124, 40, 7, 213, 205, 55, 6, 209, 62, 1, 50, 243, 0, 195, 222, 4, 19, 126, 183, 200, 211, 3, 35, 27]
def KB_21 : List Nat := [122, 179, 32, 245, 201, 125, 254, 97, 216, 254, 123, 208, 214, 32, 111, 201, 205, 55, 6, 203, 124, 194, 64, 0, 201, 227, 94, 35, 86, 35, 78, 35, 70, 35, 227, 229, 183, 237, 82, 80, 89, 235, 183, 237, 82, 225, 63, 201, 124, 183, 194, 67, 0, 201, 209, 205, 100, 6, 205, 107, 6, 125, 225, 213]
def KB_22 : List Nat := [205, 123, 6, 126, 179, 119, 35, 126, 178, 119, 201, 209, 205, 100, 6, 205, 107, 6, 125, 225, 213, 205, 123, 6, 123, 47, 166, 119, 35, 122, 47, 166, 119, 201, 175, 195, 167, 6, 62, 1, 195, 167, 6, 211, 4, 118, 205, 148, 6, 237, 91, 252, 0, 42, 250, 0, 183, 40, 9, 229, 213, 205, 103, 0]
def KB_23 : List Nat := [209, 225, 24, 5, 229, 183, 237, 82, 225, 193, 56, 10, 237, 82, 183, 237, 66, 56, 3, 235, 9, 183, 201, 205, 148, 6, 42, 252, 0, 237, 91, 250, 0, 183, 40, 9, 229, 213, 205, 103, 0, 209, 225, 24, 5, 229, 183, 237, 82, 225, 193, 56, 14, 229, 183, 237, 82, 183, 237, 66, 225, 56, 4, 183]
def KB_24 : List Nat := [237, 66, 183, 201, 203, 124, 202, 91, 0, 195, 70, 0, 211, 2, 118, 62, 10, 195, 12, 6, 62, 9, 195, 12, 6, 62, 11, 195, 12, 6, 221, 94, 254, 221, 86, 255, 42, 226, 0, 25, 34, 226, 0, 42, 228, 0, 43, 34, 228, 0, 62, 8, 195, 12, 6, 124, 183, 240, 175, 149, 111, 159, 148, 103]
def KB_25 : List Nat := [201, 122, 179, 202, 73, 0, 68, 77, 33, 0, 0, 62, 16, 203, 33, 203, 16, 237, 106, 56, 7, 237, 82, 48, 6, 25, 24, 4, 183, 237, 82, 12, 61, 32, 234, 201, 26, 71, 19, 26, 79, 19, 201, 124, 183, 194, 67, 0, 125, 184, 218, 67, 0, 121, 189, 218, 67, 0, 201, 17, 1, 0, 71, 183]
def KB_26 : List Nat := [200, 203, 35, 203, 18, 16, 250, 201, 120, 177, 200, 54, 0, 35, 11, 120, 177, 32, 248, 201, 237, 83, 250, 0, 34, 252, 0, 193, 225, 126, 35, 94, 35, 86, 35, 229, 213, 197, 201, 50, 241, 0, 209, 26, 50, 240, 0, 19, 237, 83, 236, 0, 14, 0, 58, 240, 0, 230, 1, 40, 5, 203, 124, 40]
def KB_27 : List Nat := [1, 13, 58, 241, 0, 183, 40, 11, 175, 149, 111, 62, 0, 156, 103, 62, 0, 153, 79, 34, 250, 0, 121, 50, 252, 0, 225, 229, 94, 22, 0, 58, 240, 0, 230, 4, 32, 2, 35, 86, 6, 0, 58, 240, 0, 230, 2, 40, 5, 203, 122, 40, 1, 5, 42, 250, 0, 25, 58, 252, 0, 136, 87, 58]
def KB_28 : List Nat := [240, 0, 203, 95, 40, 20, 203, 79, 32, 7, 122, 183, 194, 64, 0, 24, 14, 124, 23, 159, 186, 194, 64, 0, 24, 5, 122, 183, 194, 67, 0, 58, 240, 0, 230, 2, 40, 4, 124, 238, 128, 103, 235, 42, 236, 0, 78, 35, 70, 35, 229, 98, 107, 183, 237, 66, 225, 218, 67, 0, 78, 35, 70, 35]
def KB_29 : List Nat := [34, 236, 0, 96, 105, 183, 237, 82, 218, 67, 0, 235, 58, 240, 0, 230, 2, 40, 4, 124, 238, 128, 103, 209, 235, 115, 58, 240, 0, 230, 4, 32, 2, 35, 114, 42, 236, 0, 233]
def kb (i : Nat) : Nat := (match i / 64 with | 0 => KB_0 | 1 => KB_1 | 2 => KB_2 | 3 => KB_3 | 4 => KB_4 | 5 => KB_5 | 6 => KB_6 | 7 => KB_7 | 8 => KB_8 | 9 => KB_9 | 10 => KB_10 | 11 => KB_11 | 12 => KB_12 | 13 => KB_13 | 14 => KB_14 | 15 => KB_15 | 16 => KB_16 | 17 => KB_17 | 18 => KB_18 | 19 => KB_19 | 20 => KB_20 | 21 => KB_21 | 22 => KB_22 | 23 => KB_23 | 24 => KB_24 | 25 => KB_25 | 26 => KB_26 | 27 => KB_27 | 28 => KB_28 | 29 => KB_29 | _ => []).getD (i % 64) 0
def KM (m : Nat → Nat) : Prop := ∀ i, (i < 217 ∨ (256 ≤ i ∧ i < 1895)) → rd m i = kb i
theorem KM_up {m : Nat → Nat} {k v : Nat} (h : KM m) (h1 : 217 ≤ k) (h2 : k < 256 ∨ 1895 ≤ k) : KM (up m k v) := by
  intro i hi
  have : i ≠ k := by omega
  have e := h i hi
  unfold rd at e ⊢
  rw [up_ne this]
  exact e
theorem kb_8 {m : Nat → Nat} (h : KM m) : rd m 8 = 211 := h 8 (by decide)
theorem kb_9 {m : Nat → Nat} (h : KM m) : rd m 9 = 1 := h 9 (by decide)
theorem kb_10 {m : Nat → Nat} (h : KM m) : rd m 10 = 201 := h 10 (by decide)
theorem kb_64 {m : Nat → Nat} (h : KM m) : rd m 64 = 195 := h 64 (by decide)
theorem kb_65 {m : Nat → Nat} (h : KM m) : rd m 65 = 0 := h 65 (by decide)
theorem kb_66 {m : Nat → Nat} (h : KM m) : rd m 66 = 1 := h 66 (by decide)
theorem kb_67 {m : Nat → Nat} (h : KM m) : rd m 67 = 195 := h 67 (by decide)
theorem kb_68 {m : Nat → Nat} (h : KM m) : rd m 68 = 5 := h 68 (by decide)
theorem kb_69 {m : Nat → Nat} (h : KM m) : rd m 69 = 1 := h 69 (by decide)
theorem kb_70 {m : Nat → Nat} (h : KM m) : rd m 70 = 195 := h 70 (by decide)
theorem kb_71 {m : Nat → Nat} (h : KM m) : rd m 71 = 10 := h 71 (by decide)
theorem kb_72 {m : Nat → Nat} (h : KM m) : rd m 72 = 1 := h 72 (by decide)
theorem kb_73 {m : Nat → Nat} (h : KM m) : rd m 73 = 195 := h 73 (by decide)
theorem kb_74 {m : Nat → Nat} (h : KM m) : rd m 74 = 15 := h 74 (by decide)
theorem kb_75 {m : Nat → Nat} (h : KM m) : rd m 75 = 1 := h 75 (by decide)
theorem kb_91 {m : Nat → Nat} (h : KM m) : rd m 91 = 195 := h 91 (by decide)
theorem kb_92 {m : Nat → Nat} (h : KM m) : rd m 92 = 103 := h 92 (by decide)
theorem kb_93 {m : Nat → Nat} (h : KM m) : rd m 93 = 1 := h 93 (by decide)
theorem kb_103 {m : Nat → Nat} (h : KM m) : rd m 103 = 195 := h 103 (by decide)
theorem kb_104 {m : Nat → Nat} (h : KM m) : rd m 104 = 183 := h 104 (by decide)
theorem kb_105 {m : Nat → Nat} (h : KM m) : rd m 105 = 1 := h 105 (by decide)
theorem kb_106 {m : Nat → Nat} (h : KM m) : rd m 106 = 195 := h 106 (by decide)
theorem kb_107 {m : Nat → Nat} (h : KM m) : rd m 107 = 195 := h 107 (by decide)
theorem kb_108 {m : Nat → Nat} (h : KM m) : rd m 108 = 1 := h 108 (by decide)
theorem kb_109 {m : Nat → Nat} (h : KM m) : rd m 109 = 195 := h 109 (by decide)
theorem kb_110 {m : Nat → Nat} (h : KM m) : rd m 110 = 220 := h 110 (by decide)
theorem kb_111 {m : Nat → Nat} (h : KM m) : rd m 111 = 1 := h 111 (by decide)
theorem kb_118 {m : Nat → Nat} (h : KM m) : rd m 118 = 195 := h 118 (by decide)
theorem kb_119 {m : Nat → Nat} (h : KM m) : rd m 119 = 14 := h 119 (by decide)
theorem kb_120 {m : Nat → Nat} (h : KM m) : rd m 120 = 2 := h 120 (by decide)
theorem kb_121 {m : Nat → Nat} (h : KM m) : rd m 121 = 195 := h 121 (by decide)
theorem kb_122 {m : Nat → Nat} (h : KM m) : rd m 122 = 46 := h 122 (by decide)
theorem kb_123 {m : Nat → Nat} (h : KM m) : rd m 123 = 2 := h 123 (by decide)
theorem kb_139 {m : Nat → Nat} (h : KM m) : rd m 139 = 195 := h 139 (by decide)
theorem kb_140 {m : Nat → Nat} (h : KM m) : rd m 140 = 205 := h 140 (by decide)
theorem kb_141 {m : Nat → Nat} (h : KM m) : rd m 141 = 2 := h 141 (by decide)
theorem kb_142 {m : Nat → Nat} (h : KM m) : rd m 142 = 195 := h 142 (by decide)
theorem kb_143 {m : Nat → Nat} (h : KM m) : rd m 143 = 11 := h 143 (by decide)
theorem kb_144 {m : Nat → Nat} (h : KM m) : rd m 144 = 3 := h 144 (by decide)
theorem kb_175 {m : Nat → Nat} (h : KM m) : rd m 175 = 195 := h 175 (by decide)
theorem kb_176 {m : Nat → Nat} (h : KM m) : rd m 176 = 38 := h 176 (by decide)
theorem kb_177 {m : Nat → Nat} (h : KM m) : rd m 177 = 5 := h 177 (by decide)
theorem kb_208 {m : Nat → Nat} (h : KM m) : rd m 208 = 195 := h 208 (by decide)
theorem kb_209 {m : Nat → Nat} (h : KM m) : rd m 209 = 174 := h 209 (by decide)
theorem kb_210 {m : Nat → Nat} (h : KM m) : rd m 210 = 5 := h 210 (by decide)
theorem kb_214 {m : Nat → Nat} (h : KM m) : rd m 214 = 195 := h 214 (by decide)
theorem kb_215 {m : Nat → Nat} (h : KM m) : rd m 215 = 4 := h 215 (by decide)
theorem kb_216 {m : Nat → Nat} (h : KM m) : rd m 216 = 6 := h 216 (by decide)
theorem kb_256 {m : Nat → Nat} (h : KM m) : rd m 256 = 62 := h 256 (by decide)
theorem kb_257 {m : Nat → Nat} (h : KM m) : rd m 257 = 3 := h 257 (by decide)
theorem kb_258 {m : Nat → Nat} (h : KM m) : rd m 258 = 195 := h 258 (by decide)
theorem kb_259 {m : Nat → Nat} (h : KM m) : rd m 259 = 12 := h 259 (by decide)
theorem kb_260 {m : Nat → Nat} (h : KM m) : rd m 260 = 6 := h 260 (by decide)
theorem kb_261 {m : Nat → Nat} (h : KM m) : rd m 261 = 62 := h 261 (by decide)
theorem kb_262 {m : Nat → Nat} (h : KM m) : rd m 262 = 1 := h 262 (by decide)
theorem kb_263 {m : Nat → Nat} (h : KM m) : rd m 263 = 195 := h 263 (by decide)
theorem kb_264 {m : Nat → Nat} (h : KM m) : rd m 264 = 12 := h 264 (by decide)
theorem kb_265 {m : Nat → Nat} (h : KM m) : rd m 265 = 6 := h 265 (by decide)
theorem kb_266 {m : Nat → Nat} (h : KM m) : rd m 266 = 62 := h 266 (by decide)
theorem kb_267 {m : Nat → Nat} (h : KM m) : rd m 267 = 2 := h 267 (by decide)
theorem kb_268 {m : Nat → Nat} (h : KM m) : rd m 268 = 195 := h 268 (by decide)
theorem kb_269 {m : Nat → Nat} (h : KM m) : rd m 269 = 12 := h 269 (by decide)
theorem kb_270 {m : Nat → Nat} (h : KM m) : rd m 270 = 6 := h 270 (by decide)
theorem kb_271 {m : Nat → Nat} (h : KM m) : rd m 271 = 62 := h 271 (by decide)
theorem kb_272 {m : Nat → Nat} (h : KM m) : rd m 272 = 4 := h 272 (by decide)
theorem kb_273 {m : Nat → Nat} (h : KM m) : rd m 273 = 195 := h 273 (by decide)
theorem kb_274 {m : Nat → Nat} (h : KM m) : rd m 274 = 12 := h 274 (by decide)
theorem kb_275 {m : Nat → Nat} (h : KM m) : rd m 275 = 6 := h 275 (by decide)
theorem kb_359 {m : Nat → Nat} (h : KM m) : rd m 359 = 227 := h 359 (by decide)
theorem kb_360 {m : Nat → Nat} (h : KM m) : rd m 360 = 94 := h 360 (by decide)
theorem kb_361 {m : Nat → Nat} (h : KM m) : rd m 361 = 35 := h 361 (by decide)
theorem kb_362 {m : Nat → Nat} (h : KM m) : rd m 362 = 86 := h 362 (by decide)
theorem kb_363 {m : Nat → Nat} (h : KM m) : rd m 363 = 35 := h 363 (by decide)
theorem kb_364 {m : Nat → Nat} (h : KM m) : rd m 364 = 78 := h 364 (by decide)
theorem kb_365 {m : Nat → Nat} (h : KM m) : rd m 365 = 35 := h 365 (by decide)
theorem kb_366 {m : Nat → Nat} (h : KM m) : rd m 366 = 70 := h 366 (by decide)
theorem kb_367 {m : Nat → Nat} (h : KM m) : rd m 367 = 35 := h 367 (by decide)
theorem kb_368 {m : Nat → Nat} (h : KM m) : rd m 368 = 227 := h 368 (by decide)
theorem kb_369 {m : Nat → Nat} (h : KM m) : rd m 369 = 183 := h 369 (by decide)
theorem kb_370 {m : Nat → Nat} (h : KM m) : rd m 370 = 237 := h 370 (by decide)
theorem kb_371 {m : Nat → Nat} (h : KM m) : rd m 371 = 82 := h 371 (by decide)
theorem kb_372 {m : Nat → Nat} (h : KM m) : rd m 372 = 229 := h 372 (by decide)
theorem kb_373 {m : Nat → Nat} (h : KM m) : rd m 373 = 80 := h 373 (by decide)
theorem kb_374 {m : Nat → Nat} (h : KM m) : rd m 374 = 89 := h 374 (by decide)
theorem kb_375 {m : Nat → Nat} (h : KM m) : rd m 375 = 235 := h 375 (by decide)
theorem kb_376 {m : Nat → Nat} (h : KM m) : rd m 376 = 183 := h 376 (by decide)
theorem kb_377 {m : Nat → Nat} (h : KM m) : rd m 377 = 237 := h 377 (by decide)
theorem kb_378 {m : Nat → Nat} (h : KM m) : rd m 378 = 82 := h 378 (by decide)
theorem kb_379 {m : Nat → Nat} (h : KM m) : rd m 379 = 225 := h 379 (by decide)
theorem kb_380 {m : Nat → Nat} (h : KM m) : rd m 380 = 218 := h 380 (by decide)
theorem kb_381 {m : Nat → Nat} (h : KM m) : rd m 381 = 70 := h 381 (by decide)
theorem kb_382 {m : Nat → Nat} (h : KM m) : rd m 382 = 0 := h 382 (by decide)
theorem kb_383 {m : Nat → Nat} (h : KM m) : rd m 383 = 201 := h 383 (by decide)
theorem kb_439 {m : Nat → Nat} (h : KM m) : rd m 439 = 124 := h 439 (by decide)
theorem kb_440 {m : Nat → Nat} (h : KM m) : rd m 440 = 238 := h 440 (by decide)
theorem kb_441 {m : Nat → Nat} (h : KM m) : rd m 441 = 128 := h 441 (by decide)
theorem kb_442 {m : Nat → Nat} (h : KM m) : rd m 442 = 103 := h 442 (by decide)
theorem kb_443 {m : Nat → Nat} (h : KM m) : rd m 443 = 122 := h 443 (by decide)
theorem kb_444 {m : Nat → Nat} (h : KM m) : rd m 444 = 238 := h 444 (by decide)
theorem kb_445 {m : Nat → Nat} (h : KM m) : rd m 445 = 128 := h 445 (by decide)
theorem kb_446 {m : Nat → Nat} (h : KM m) : rd m 446 = 87 := h 446 (by decide)
theorem kb_447 {m : Nat → Nat} (h : KM m) : rd m 447 = 183 := h 447 (by decide)
theorem kb_448 {m : Nat → Nat} (h : KM m) : rd m 448 = 237 := h 448 (by decide)
theorem kb_449 {m : Nat → Nat} (h : KM m) : rd m 449 = 82 := h 449 (by decide)
theorem kb_450 {m : Nat → Nat} (h : KM m) : rd m 450 = 201 := h 450 (by decide)
theorem kb_451 {m : Nat → Nat} (h : KM m) : rd m 451 = 68 := h 451 (by decide)
theorem kb_452 {m : Nat → Nat} (h : KM m) : rd m 452 = 77 := h 452 (by decide)
theorem kb_453 {m : Nat → Nat} (h : KM m) : rd m 453 = 33 := h 453 (by decide)
theorem kb_454 {m : Nat → Nat} (h : KM m) : rd m 454 = 0 := h 454 (by decide)
theorem kb_455 {m : Nat → Nat} (h : KM m) : rd m 455 = 0 := h 455 (by decide)
theorem kb_456 {m : Nat → Nat} (h : KM m) : rd m 456 = 62 := h 456 (by decide)
theorem kb_457 {m : Nat → Nat} (h : KM m) : rd m 457 = 16 := h 457 (by decide)
theorem kb_458 {m : Nat → Nat} (h : KM m) : rd m 458 = 41 := h 458 (by decide)
theorem kb_459 {m : Nat → Nat} (h : KM m) : rd m 459 = 218 := h 459 (by decide)
theorem kb_460 {m : Nat → Nat} (h : KM m) : rd m 460 = 64 := h 460 (by decide)
theorem kb_461 {m : Nat → Nat} (h : KM m) : rd m 461 = 0 := h 461 (by decide)
theorem kb_462 {m : Nat → Nat} (h : KM m) : rd m 462 = 203 := h 462 (by decide)
theorem kb_463 {m : Nat → Nat} (h : KM m) : rd m 463 = 35 := h 463 (by decide)
theorem kb_464 {m : Nat → Nat} (h : KM m) : rd m 464 = 203 := h 464 (by decide)
theorem kb_465 {m : Nat → Nat} (h : KM m) : rd m 465 = 18 := h 465 (by decide)
theorem kb_466 {m : Nat → Nat} (h : KM m) : rd m 466 = 48 := h 466 (by decide)
theorem kb_467 {m : Nat → Nat} (h : KM m) : rd m 467 = 4 := h 467 (by decide)
theorem kb_468 {m : Nat → Nat} (h : KM m) : rd m 468 = 9 := h 468 (by decide)
theorem kb_469 {m : Nat → Nat} (h : KM m) : rd m 469 = 218 := h 469 (by decide)
theorem kb_470 {m : Nat → Nat} (h : KM m) : rd m 470 = 64 := h 470 (by decide)
theorem kb_471 {m : Nat → Nat} (h : KM m) : rd m 471 = 0 := h 471 (by decide)
theorem kb_472 {m : Nat → Nat} (h : KM m) : rd m 472 = 61 := h 472 (by decide)
theorem kb_473 {m : Nat → Nat} (h : KM m) : rd m 473 = 32 := h 473 (by decide)
theorem kb_474 {m : Nat → Nat} (h : KM m) : rd m 474 = 239 := h 474 (by decide)
theorem kb_475 {m : Nat → Nat} (h : KM m) : rd m 475 = 201 := h 475 (by decide)
theorem kb_476 {m : Nat → Nat} (h : KM m) : rd m 476 = 124 := h 476 (by decide)
theorem kb_477 {m : Nat → Nat} (h : KM m) : rd m 477 = 170 := h 477 (by decide)
theorem kb_478 {m : Nat → Nat} (h : KM m) : rd m 478 = 245 := h 478 (by decide)
theorem kb_479 {m : Nat → Nat} (h : KM m) : rd m 479 = 205 := h 479 (by decide)
theorem kb_480 {m : Nat → Nat} (h : KM m) : rd m 480 = 55 := h 480 (by decide)
theorem kb_481 {m : Nat → Nat} (h : KM m) : rd m 481 = 6 := h 481 (by decide)
theorem kb_482 {m : Nat → Nat} (h : KM m) : rd m 482 = 235 := h 482 (by decide)
theorem kb_483 {m : Nat → Nat} (h : KM m) : rd m 483 = 205 := h 483 (by decide)
theorem kb_484 {m : Nat → Nat} (h : KM m) : rd m 484 = 55 := h 484 (by decide)
theorem kb_485 {m : Nat → Nat} (h : KM m) : rd m 485 = 6 := h 485 (by decide)
theorem kb_486 {m : Nat → Nat} (h : KM m) : rd m 486 = 205 := h 486 (by decide)
theorem kb_487 {m : Nat → Nat} (h : KM m) : rd m 487 = 106 := h 487 (by decide)
theorem kb_488 {m : Nat → Nat} (h : KM m) : rd m 488 = 0 := h 488 (by decide)
theorem kb_489 {m : Nat → Nat} (h : KM m) : rd m 489 = 241 := h 489 (by decide)
theorem kb_490 {m : Nat → Nat} (h : KM m) : rd m 490 = 183 := h 490 (by decide)
theorem kb_491 {m : Nat → Nat} (h : KM m) : rd m 491 = 250 := h 491 (by decide)
theorem kb_492 {m : Nat → Nat} (h : KM m) : rd m 492 = 244 := h 492 (by decide)
theorem kb_493 {m : Nat → Nat} (h : KM m) : rd m 493 = 1 := h 493 (by decide)
theorem kb_494 {m : Nat → Nat} (h : KM m) : rd m 494 = 203 := h 494 (by decide)
theorem kb_495 {m : Nat → Nat} (h : KM m) : rd m 495 = 124 := h 495 (by decide)
theorem kb_496 {m : Nat → Nat} (h : KM m) : rd m 496 = 194 := h 496 (by decide)
theorem kb_497 {m : Nat → Nat} (h : KM m) : rd m 497 = 64 := h 497 (by decide)
theorem kb_498 {m : Nat → Nat} (h : KM m) : rd m 498 = 0 := h 498 (by decide)
theorem kb_499 {m : Nat → Nat} (h : KM m) : rd m 499 = 201 := h 499 (by decide)
theorem kb_500 {m : Nat → Nat} (h : KM m) : rd m 500 = 235 := h 500 (by decide)
theorem kb_501 {m : Nat → Nat} (h : KM m) : rd m 501 = 33 := h 501 (by decide)
theorem kb_502 {m : Nat → Nat} (h : KM m) : rd m 502 = 0 := h 502 (by decide)
theorem kb_503 {m : Nat → Nat} (h : KM m) : rd m 503 = 0 := h 503 (by decide)
theorem kb_504 {m : Nat → Nat} (h : KM m) : rd m 504 = 183 := h 504 (by decide)
theorem kb_505 {m : Nat → Nat} (h : KM m) : rd m 505 = 237 := h 505 (by decide)
theorem kb_506 {m : Nat → Nat} (h : KM m) : rd m 506 = 82 := h 506 (by decide)
theorem kb_507 {m : Nat → Nat} (h : KM m) : rd m 507 = 124 := h 507 (by decide)
theorem kb_508 {m : Nat → Nat} (h : KM m) : rd m 508 = 181 := h 508 (by decide)
theorem kb_509 {m : Nat → Nat} (h : KM m) : rd m 509 = 200 := h 509 (by decide)
theorem kb_510 {m : Nat → Nat} (h : KM m) : rd m 510 = 203 := h 510 (by decide)
theorem kb_511 {m : Nat → Nat} (h : KM m) : rd m 511 = 124 := h 511 (by decide)
theorem kb_512 {m : Nat → Nat} (h : KM m) : rd m 512 = 202 := h 512 (by decide)
theorem kb_513 {m : Nat → Nat} (h : KM m) : rd m 513 = 64 := h 513 (by decide)
theorem kb_514 {m : Nat → Nat} (h : KM m) : rd m 514 = 0 := h 514 (by decide)
theorem kb_515 {m : Nat → Nat} (h : KM m) : rd m 515 = 201 := h 515 (by decide)
theorem kb_526 {m : Nat → Nat} (h : KM m) : rd m 526 = 122 := h 526 (by decide)
theorem kb_527 {m : Nat → Nat} (h : KM m) : rd m 527 = 183 := h 527 (by decide)
theorem kb_528 {m : Nat → Nat} (h : KM m) : rd m 528 = 250 := h 528 (by decide)
theorem kb_529 {m : Nat → Nat} (h : KM m) : rd m 529 = 73 := h 529 (by decide)
theorem kb_530 {m : Nat → Nat} (h : KM m) : rd m 530 = 0 := h 530 (by decide)
theorem kb_531 {m : Nat → Nat} (h : KM m) : rd m 531 = 179 := h 531 (by decide)
theorem kb_532 {m : Nat → Nat} (h : KM m) : rd m 532 = 202 := h 532 (by decide)
theorem kb_533 {m : Nat → Nat} (h : KM m) : rd m 533 = 73 := h 533 (by decide)
theorem kb_534 {m : Nat → Nat} (h : KM m) : rd m 534 = 0 := h 534 (by decide)
theorem kb_535 {m : Nat → Nat} (h : KM m) : rd m 535 = 203 := h 535 (by decide)
theorem kb_536 {m : Nat → Nat} (h : KM m) : rd m 536 = 124 := h 536 (by decide)
theorem kb_537 {m : Nat → Nat} (h : KM m) : rd m 537 = 40 := h 537 (by decide)
theorem kb_538 {m : Nat → Nat} (h : KM m) : rd m 538 = 13 := h 538 (by decide)
theorem kb_539 {m : Nat → Nat} (h : KM m) : rd m 539 = 205 := h 539 (by decide)
theorem kb_540 {m : Nat → Nat} (h : KM m) : rd m 540 = 55 := h 540 (by decide)
theorem kb_541 {m : Nat → Nat} (h : KM m) : rd m 541 = 6 := h 541 (by decide)
theorem kb_542 {m : Nat → Nat} (h : KM m) : rd m 542 = 25 := h 542 (by decide)
theorem kb_543 {m : Nat → Nat} (h : KM m) : rd m 543 = 43 := h 543 (by decide)
theorem kb_544 {m : Nat → Nat} (h : KM m) : rd m 544 = 205 := h 544 (by decide)
theorem kb_545 {m : Nat → Nat} (h : KM m) : rd m 545 = 65 := h 545 (by decide)
theorem kb_546 {m : Nat → Nat} (h : KM m) : rd m 546 = 6 := h 546 (by decide)
theorem kb_547 {m : Nat → Nat} (h : KM m) : rd m 547 = 96 := h 547 (by decide)
theorem kb_548 {m : Nat → Nat} (h : KM m) : rd m 548 = 105 := h 548 (by decide)
theorem kb_549 {m : Nat → Nat} (h : KM m) : rd m 549 = 195 := h 549 (by decide)
theorem kb_550 {m : Nat → Nat} (h : KM m) : rd m 550 = 58 := h 550 (by decide)
theorem kb_551 {m : Nat → Nat} (h : KM m) : rd m 551 = 6 := h 551 (by decide)
theorem kb_552 {m : Nat → Nat} (h : KM m) : rd m 552 = 205 := h 552 (by decide)
theorem kb_553 {m : Nat → Nat} (h : KM m) : rd m 553 = 65 := h 553 (by decide)
theorem kb_554 {m : Nat → Nat} (h : KM m) : rd m 554 = 6 := h 554 (by decide)
theorem kb_555 {m : Nat → Nat} (h : KM m) : rd m 555 = 96 := h 555 (by decide)
theorem kb_556 {m : Nat → Nat} (h : KM m) : rd m 556 = 105 := h 556 (by decide)
theorem kb_557 {m : Nat → Nat} (h : KM m) : rd m 557 = 201 := h 557 (by decide)
theorem kb_558 {m : Nat → Nat} (h : KM m) : rd m 558 = 122 := h 558 (by decide)
theorem kb_559 {m : Nat → Nat} (h : KM m) : rd m 559 = 183 := h 559 (by decide)
theorem kb_560 {m : Nat → Nat} (h : KM m) : rd m 560 = 250 := h 560 (by decide)
theorem kb_561 {m : Nat → Nat} (h : KM m) : rd m 561 = 73 := h 561 (by decide)
theorem kb_562 {m : Nat → Nat} (h : KM m) : rd m 562 = 0 := h 562 (by decide)
theorem kb_563 {m : Nat → Nat} (h : KM m) : rd m 563 = 179 := h 563 (by decide)
theorem kb_564 {m : Nat → Nat} (h : KM m) : rd m 564 = 202 := h 564 (by decide)
theorem kb_565 {m : Nat → Nat} (h : KM m) : rd m 565 = 73 := h 565 (by decide)
theorem kb_566 {m : Nat → Nat} (h : KM m) : rd m 566 = 0 := h 566 (by decide)
theorem kb_567 {m : Nat → Nat} (h : KM m) : rd m 567 = 203 := h 567 (by decide)
theorem kb_568 {m : Nat → Nat} (h : KM m) : rd m 568 = 124 := h 568 (by decide)
theorem kb_569 {m : Nat → Nat} (h : KM m) : rd m 569 = 40 := h 569 (by decide)
theorem kb_570 {m : Nat → Nat} (h : KM m) : rd m 570 = 16 := h 570 (by decide)
theorem kb_571 {m : Nat → Nat} (h : KM m) : rd m 571 = 205 := h 571 (by decide)
theorem kb_572 {m : Nat → Nat} (h : KM m) : rd m 572 = 55 := h 572 (by decide)
theorem kb_573 {m : Nat → Nat} (h : KM m) : rd m 573 = 6 := h 573 (by decide)
theorem kb_574 {m : Nat → Nat} (h : KM m) : rd m 574 = 213 := h 574 (by decide)
theorem kb_575 {m : Nat → Nat} (h : KM m) : rd m 575 = 205 := h 575 (by decide)
theorem kb_576 {m : Nat → Nat} (h : KM m) : rd m 576 = 65 := h 576 (by decide)
theorem kb_577 {m : Nat → Nat} (h : KM m) : rd m 577 = 6 := h 577 (by decide)
theorem kb_578 {m : Nat → Nat} (h : KM m) : rd m 578 = 209 := h 578 (by decide)
theorem kb_579 {m : Nat → Nat} (h : KM m) : rd m 579 = 124 := h 579 (by decide)
theorem kb_580 {m : Nat → Nat} (h : KM m) : rd m 580 = 181 := h 580 (by decide)
theorem kb_581 {m : Nat → Nat} (h : KM m) : rd m 581 = 200 := h 581 (by decide)
theorem kb_582 {m : Nat → Nat} (h : KM m) : rd m 582 = 235 := h 582 (by decide)
theorem kb_583 {m : Nat → Nat} (h : KM m) : rd m 583 = 183 := h 583 (by decide)
theorem kb_584 {m : Nat → Nat} (h : KM m) : rd m 584 = 237 := h 584 (by decide)
theorem kb_585 {m : Nat → Nat} (h : KM m) : rd m 585 = 82 := h 585 (by decide)
theorem kb_586 {m : Nat → Nat} (h : KM m) : rd m 586 = 201 := h 586 (by decide)
theorem kb_587 {m : Nat → Nat} (h : KM m) : rd m 587 = 205 := h 587 (by decide)
theorem kb_588 {m : Nat → Nat} (h : KM m) : rd m 588 = 65 := h 588 (by decide)
theorem kb_589 {m : Nat → Nat} (h : KM m) : rd m 589 = 6 := h 589 (by decide)
theorem kb_590 {m : Nat → Nat} (h : KM m) : rd m 590 = 201 := h 590 (by decide)
theorem kb_717 {m : Nat → Nat} (h : KM m) : rd m 717 = 225 := h 717 (by decide)
theorem kb_718 {m : Nat → Nat} (h : KM m) : rd m 718 = 94 := h 718 (by decide)
theorem kb_719 {m : Nat → Nat} (h : KM m) : rd m 719 = 35 := h 719 (by decide)
theorem kb_720 {m : Nat → Nat} (h : KM m) : rd m 720 = 86 := h 720 (by decide)
theorem kb_721 {m : Nat → Nat} (h : KM m) : rd m 721 = 35 := h 721 (by decide)
theorem kb_722 {m : Nat → Nat} (h : KM m) : rd m 722 = 78 := h 722 (by decide)
theorem kb_723 {m : Nat → Nat} (h : KM m) : rd m 723 = 35 := h 723 (by decide)
theorem kb_724 {m : Nat → Nat} (h : KM m) : rd m 724 = 70 := h 724 (by decide)
theorem kb_725 {m : Nat → Nat} (h : KM m) : rd m 725 = 35 := h 725 (by decide)
theorem kb_726 {m : Nat → Nat} (h : KM m) : rd m 726 = 34 := h 726 (by decide)
theorem kb_727 {m : Nat → Nat} (h : KM m) : rd m 727 = 236 := h 727 (by decide)
theorem kb_728 {m : Nat → Nat} (h : KM m) : rd m 728 = 0 := h 728 (by decide)
theorem kb_729 {m : Nat → Nat} (h : KM m) : rd m 729 = 42 := h 729 (by decide)
theorem kb_730 {m : Nat → Nat} (h : KM m) : rd m 730 = 226 := h 730 (by decide)
theorem kb_731 {m : Nat → Nat} (h : KM m) : rd m 731 = 0 := h 731 (by decide)
theorem kb_732 {m : Nat → Nat} (h : KM m) : rd m 732 = 183 := h 732 (by decide)
theorem kb_733 {m : Nat → Nat} (h : KM m) : rd m 733 = 237 := h 733 (by decide)
theorem kb_734 {m : Nat → Nat} (h : KM m) : rd m 734 = 82 := h 734 (by decide)
theorem kb_735 {m : Nat → Nat} (h : KM m) : rd m 735 = 218 := h 735 (by decide)
theorem kb_736 {m : Nat → Nat} (h : KM m) : rd m 736 = 50 := h 736 (by decide)
theorem kb_737 {m : Nat → Nat} (h : KM m) : rd m 737 = 6 := h 737 (by decide)
theorem kb_738 {m : Nat → Nat} (h : KM m) : rd m 738 = 34 := h 738 (by decide)
theorem kb_739 {m : Nat → Nat} (h : KM m) : rd m 739 = 226 := h 739 (by decide)
theorem kb_740 {m : Nat → Nat} (h : KM m) : rd m 740 = 0 := h 740 (by decide)
theorem kb_741 {m : Nat → Nat} (h : KM m) : rd m 741 = 42 := h 741 (by decide)
theorem kb_742 {m : Nat → Nat} (h : KM m) : rd m 742 = 228 := h 742 (by decide)
theorem kb_743 {m : Nat → Nat} (h : KM m) : rd m 743 = 0 := h 743 (by decide)
theorem kb_744 {m : Nat → Nat} (h : KM m) : rd m 744 = 35 := h 744 (by decide)
theorem kb_745 {m : Nat → Nat} (h : KM m) : rd m 745 = 34 := h 745 (by decide)
theorem kb_746 {m : Nat → Nat} (h : KM m) : rd m 746 = 228 := h 746 (by decide)
theorem kb_747 {m : Nat → Nat} (h : KM m) : rd m 747 = 0 := h 747 (by decide)
theorem kb_748 {m : Nat → Nat} (h : KM m) : rd m 748 = 221 := h 748 (by decide)
theorem kb_749 {m : Nat → Nat} (h : KM m) : rd m 749 = 229 := h 749 (by decide)
theorem kb_750 {m : Nat → Nat} (h : KM m) : rd m 750 = 221 := h 750 (by decide)
theorem kb_751 {m : Nat → Nat} (h : KM m) : rd m 751 = 33 := h 751 (by decide)
theorem kb_752 {m : Nat → Nat} (h : KM m) : rd m 752 = 0 := h 752 (by decide)
theorem kb_753 {m : Nat → Nat} (h : KM m) : rd m 753 = 0 := h 753 (by decide)
theorem kb_754 {m : Nat → Nat} (h : KM m) : rd m 754 = 221 := h 754 (by decide)
theorem kb_755 {m : Nat → Nat} (h : KM m) : rd m 755 = 57 := h 755 (by decide)
theorem kb_756 {m : Nat → Nat} (h : KM m) : rd m 756 = 213 := h 756 (by decide)
theorem kb_757 {m : Nat → Nat} (h : KM m) : rd m 757 = 11 := h 757 (by decide)
theorem kb_758 {m : Nat → Nat} (h : KM m) : rd m 758 = 11 := h 758 (by decide)
theorem kb_759 {m : Nat → Nat} (h : KM m) : rd m 759 = 33 := h 759 (by decide)
theorem kb_760 {m : Nat → Nat} (h : KM m) : rd m 760 = 0 := h 760 (by decide)
theorem kb_761 {m : Nat → Nat} (h : KM m) : rd m 761 = 0 := h 761 (by decide)
theorem kb_762 {m : Nat → Nat} (h : KM m) : rd m 762 = 183 := h 762 (by decide)
theorem kb_763 {m : Nat → Nat} (h : KM m) : rd m 763 = 237 := h 763 (by decide)
theorem kb_764 {m : Nat → Nat} (h : KM m) : rd m 764 = 66 := h 764 (by decide)
theorem kb_765 {m : Nat → Nat} (h : KM m) : rd m 765 = 57 := h 765 (by decide)
theorem kb_766 {m : Nat → Nat} (h : KM m) : rd m 766 = 249 := h 766 (by decide)
theorem kb_767 {m : Nat → Nat} (h : KM m) : rd m 767 = 54 := h 767 (by decide)
theorem kb_768 {m : Nat → Nat} (h : KM m) : rd m 768 = 0 := h 768 (by decide)
theorem kb_769 {m : Nat → Nat} (h : KM m) : rd m 769 = 84 := h 769 (by decide)
theorem kb_770 {m : Nat → Nat} (h : KM m) : rd m 770 = 93 := h 770 (by decide)
theorem kb_771 {m : Nat → Nat} (h : KM m) : rd m 771 = 19 := h 771 (by decide)
theorem kb_772 {m : Nat → Nat} (h : KM m) : rd m 772 = 11 := h 772 (by decide)
theorem kb_773 {m : Nat → Nat} (h : KM m) : rd m 773 = 237 := h 773 (by decide)
theorem kb_774 {m : Nat → Nat} (h : KM m) : rd m 774 = 176 := h 774 (by decide)
theorem kb_775 {m : Nat → Nat} (h : KM m) : rd m 775 = 42 := h 775 (by decide)
theorem kb_776 {m : Nat → Nat} (h : KM m) : rd m 776 = 236 := h 776 (by decide)
theorem kb_777 {m : Nat → Nat} (h : KM m) : rd m 777 = 0 := h 777 (by decide)
theorem kb_778 {m : Nat → Nat} (h : KM m) : rd m 778 = 233 := h 778 (by decide)
theorem kb_779 {m : Nat → Nat} (h : KM m) : rd m 779 = 34 := h 779 (by decide)
theorem kb_780 {m : Nat → Nat} (h : KM m) : rd m 780 = 238 := h 780 (by decide)
theorem kb_781 {m : Nat → Nat} (h : KM m) : rd m 781 = 0 := h 781 (by decide)
theorem kb_782 {m : Nat → Nat} (h : KM m) : rd m 782 = 221 := h 782 (by decide)
theorem kb_783 {m : Nat → Nat} (h : KM m) : rd m 783 = 94 := h 783 (by decide)
theorem kb_784 {m : Nat → Nat} (h : KM m) : rd m 784 = 254 := h 784 (by decide)
theorem kb_785 {m : Nat → Nat} (h : KM m) : rd m 785 = 221 := h 785 (by decide)
theorem kb_786 {m : Nat → Nat} (h : KM m) : rd m 786 = 86 := h 786 (by decide)
theorem kb_787 {m : Nat → Nat} (h : KM m) : rd m 787 = 255 := h 787 (by decide)
theorem kb_788 {m : Nat → Nat} (h : KM m) : rd m 788 = 42 := h 788 (by decide)
theorem kb_789 {m : Nat → Nat} (h : KM m) : rd m 789 = 226 := h 789 (by decide)
theorem kb_790 {m : Nat → Nat} (h : KM m) : rd m 790 = 0 := h 790 (by decide)
theorem kb_791 {m : Nat → Nat} (h : KM m) : rd m 791 = 25 := h 791 (by decide)
theorem kb_792 {m : Nat → Nat} (h : KM m) : rd m 792 = 34 := h 792 (by decide)
theorem kb_793 {m : Nat → Nat} (h : KM m) : rd m 793 = 226 := h 793 (by decide)
theorem kb_794 {m : Nat → Nat} (h : KM m) : rd m 794 = 0 := h 794 (by decide)
theorem kb_795 {m : Nat → Nat} (h : KM m) : rd m 795 = 42 := h 795 (by decide)
theorem kb_796 {m : Nat → Nat} (h : KM m) : rd m 796 = 228 := h 796 (by decide)
theorem kb_797 {m : Nat → Nat} (h : KM m) : rd m 797 = 0 := h 797 (by decide)
theorem kb_798 {m : Nat → Nat} (h : KM m) : rd m 798 = 43 := h 798 (by decide)
theorem kb_799 {m : Nat → Nat} (h : KM m) : rd m 799 = 34 := h 799 (by decide)
theorem kb_800 {m : Nat → Nat} (h : KM m) : rd m 800 = 228 := h 800 (by decide)
theorem kb_801 {m : Nat → Nat} (h : KM m) : rd m 801 = 0 := h 801 (by decide)
theorem kb_802 {m : Nat → Nat} (h : KM m) : rd m 802 = 221 := h 802 (by decide)
theorem kb_803 {m : Nat → Nat} (h : KM m) : rd m 803 = 249 := h 803 (by decide)
theorem kb_804 {m : Nat → Nat} (h : KM m) : rd m 804 = 221 := h 804 (by decide)
theorem kb_805 {m : Nat → Nat} (h : KM m) : rd m 805 = 225 := h 805 (by decide)
theorem kb_806 {m : Nat → Nat} (h : KM m) : rd m 806 = 209 := h 806 (by decide)
theorem kb_807 {m : Nat → Nat} (h : KM m) : rd m 807 = 33 := h 807 (by decide)
theorem kb_808 {m : Nat → Nat} (h : KM m) : rd m 808 = 0 := h 808 (by decide)
theorem kb_809 {m : Nat → Nat} (h : KM m) : rd m 809 = 0 := h 809 (by decide)
theorem kb_810 {m : Nat → Nat} (h : KM m) : rd m 810 = 57 := h 810 (by decide)
theorem kb_811 {m : Nat → Nat} (h : KM m) : rd m 811 = 9 := h 811 (by decide)
theorem kb_812 {m : Nat → Nat} (h : KM m) : rd m 812 = 249 := h 812 (by decide)
theorem kb_813 {m : Nat → Nat} (h : KM m) : rd m 813 = 213 := h 813 (by decide)
theorem kb_814 {m : Nat → Nat} (h : KM m) : rd m 814 = 42 := h 814 (by decide)
theorem kb_815 {m : Nat → Nat} (h : KM m) : rd m 815 = 238 := h 815 (by decide)
theorem kb_816 {m : Nat → Nat} (h : KM m) : rd m 816 = 0 := h 816 (by decide)
theorem kb_817 {m : Nat → Nat} (h : KM m) : rd m 817 = 201 := h 817 (by decide)
theorem kb_1246 {m : Nat → Nat} (h : KM m) : rd m 1246 = 122 := h 1246 (by decide)
theorem kb_1247 {m : Nat → Nat} (h : KM m) : rd m 1247 = 183 := h 1247 (by decide)
theorem kb_1248 {m : Nat → Nat} (h : KM m) : rd m 1248 = 194 := h 1248 (by decide)
theorem kb_1249 {m : Nat → Nat} (h : KM m) : rd m 1249 = 67 := h 1249 (by decide)
theorem kb_1250 {m : Nat → Nat} (h : KM m) : rd m 1250 = 0 := h 1250 (by decide)
theorem kb_1251 {m : Nat → Nat} (h : KM m) : rd m 1251 = 123 := h 1251 (by decide)
theorem kb_1252 {m : Nat → Nat} (h : KM m) : rd m 1252 = 254 := h 1252 (by decide)
theorem kb_1253 {m : Nat → Nat} (h : KM m) : rd m 1253 = 41 := h 1253 (by decide)
theorem kb_1254 {m : Nat → Nat} (h : KM m) : rd m 1254 = 210 := h 1254 (by decide)
theorem kb_1255 {m : Nat → Nat} (h : KM m) : rd m 1255 = 67 := h 1255 (by decide)
theorem kb_1256 {m : Nat → Nat} (h : KM m) : rd m 1256 = 0 := h 1256 (by decide)
theorem kb_1257 {m : Nat → Nat} (h : KM m) : rd m 1257 = 50 := h 1257 (by decide)
theorem kb_1258 {m : Nat → Nat} (h : KM m) : rd m 1258 = 242 := h 1258 (by decide)
theorem kb_1259 {m : Nat → Nat} (h : KM m) : rd m 1259 = 0 := h 1259 (by decide)
theorem kb_1260 {m : Nat → Nat} (h : KM m) : rd m 1260 = 6 := h 1260 (by decide)
theorem kb_1261 {m : Nat → Nat} (h : KM m) : rd m 1261 = 0 := h 1261 (by decide)
theorem kb_1262 {m : Nat → Nat} (h : KM m) : rd m 1262 = 197 := h 1262 (by decide)
theorem kb_1263 {m : Nat → Nat} (h : KM m) : rd m 1263 = 17 := h 1263 (by decide)
theorem kb_1264 {m : Nat → Nat} (h : KM m) : rd m 1264 = 10 := h 1264 (by decide)
theorem kb_1265 {m : Nat → Nat} (h : KM m) : rd m 1265 = 0 := h 1265 (by decide)
theorem kb_1266 {m : Nat → Nat} (h : KM m) : rd m 1266 = 205 := h 1266 (by decide)
theorem kb_1267 {m : Nat → Nat} (h : KM m) : rd m 1267 = 65 := h 1267 (by decide)
theorem kb_1268 {m : Nat → Nat} (h : KM m) : rd m 1268 = 6 := h 1268 (by decide)
theorem kb_1269 {m : Nat → Nat} (h : KM m) : rd m 1269 = 125 := h 1269 (by decide)
theorem kb_1270 {m : Nat → Nat} (h : KM m) : rd m 1270 = 96 := h 1270 (by decide)
theorem kb_1271 {m : Nat → Nat} (h : KM m) : rd m 1271 = 105 := h 1271 (by decide)
theorem kb_1272 {m : Nat → Nat} (h : KM m) : rd m 1272 = 193 := h 1272 (by decide)
theorem kb_1273 {m : Nat → Nat} (h : KM m) : rd m 1273 = 245 := h 1273 (by decide)
theorem kb_1274 {m : Nat → Nat} (h : KM m) : rd m 1274 = 4 := h 1274 (by decide)
theorem kb_1275 {m : Nat → Nat} (h : KM m) : rd m 1275 = 124 := h 1275 (by decide)
theorem kb_1276 {m : Nat → Nat} (h : KM m) : rd m 1276 = 181 := h 1276 (by decide)
theorem kb_1277 {m : Nat → Nat} (h : KM m) : rd m 1277 = 32 := h 1277 (by decide)
theorem kb_1278 {m : Nat → Nat} (h : KM m) : rd m 1278 = 239 := h 1278 (by decide)
theorem kb_1279 {m : Nat → Nat} (h : KM m) : rd m 1279 = 58 := h 1279 (by decide)
theorem kb_1280 {m : Nat → Nat} (h : KM m) : rd m 1280 = 243 := h 1280 (by decide)
theorem kb_1281 {m : Nat → Nat} (h : KM m) : rd m 1281 = 0 := h 1281 (by decide)
theorem kb_1282 {m : Nat → Nat} (h : KM m) : rd m 1282 = 128 := h 1282 (by decide)
theorem kb_1283 {m : Nat → Nat} (h : KM m) : rd m 1283 = 79 := h 1283 (by decide)
theorem kb_1284 {m : Nat → Nat} (h : KM m) : rd m 1284 = 58 := h 1284 (by decide)
theorem kb_1285 {m : Nat → Nat} (h : KM m) : rd m 1285 = 242 := h 1285 (by decide)
theorem kb_1286 {m : Nat → Nat} (h : KM m) : rd m 1286 = 0 := h 1286 (by decide)
theorem kb_1287 {m : Nat → Nat} (h : KM m) : rd m 1287 = 145 := h 1287 (by decide)
theorem kb_1288 {m : Nat → Nat} (h : KM m) : rd m 1288 = 56 := h 1288 (by decide)
theorem kb_1289 {m : Nat → Nat} (h : KM m) : rd m 1289 = 10 := h 1289 (by decide)
theorem kb_1290 {m : Nat → Nat} (h : KM m) : rd m 1290 = 40 := h 1290 (by decide)
theorem kb_1291 {m : Nat → Nat} (h : KM m) : rd m 1291 = 8 := h 1291 (by decide)
theorem kb_1292 {m : Nat → Nat} (h : KM m) : rd m 1292 = 79 := h 1292 (by decide)
theorem kb_1293 {m : Nat → Nat} (h : KM m) : rd m 1293 = 62 := h 1293 (by decide)
theorem kb_1294 {m : Nat → Nat} (h : KM m) : rd m 1294 = 32 := h 1294 (by decide)
theorem kb_1295 {m : Nat → Nat} (h : KM m) : rd m 1295 = 211 := h 1295 (by decide)
theorem kb_1296 {m : Nat → Nat} (h : KM m) : rd m 1296 = 3 := h 1296 (by decide)
theorem kb_1297 {m : Nat → Nat} (h : KM m) : rd m 1297 = 13 := h 1297 (by decide)
theorem kb_1298 {m : Nat → Nat} (h : KM m) : rd m 1298 = 32 := h 1298 (by decide)
theorem kb_1299 {m : Nat → Nat} (h : KM m) : rd m 1299 = 249 := h 1299 (by decide)
theorem kb_1300 {m : Nat → Nat} (h : KM m) : rd m 1300 = 58 := h 1300 (by decide)
theorem kb_1301 {m : Nat → Nat} (h : KM m) : rd m 1301 = 243 := h 1301 (by decide)
theorem kb_1302 {m : Nat → Nat} (h : KM m) : rd m 1302 = 0 := h 1302 (by decide)
theorem kb_1303 {m : Nat → Nat} (h : KM m) : rd m 1303 = 183 := h 1303 (by decide)
theorem kb_1304 {m : Nat → Nat} (h : KM m) : rd m 1304 = 40 := h 1304 (by decide)
theorem kb_1305 {m : Nat → Nat} (h : KM m) : rd m 1305 = 4 := h 1305 (by decide)
theorem kb_1306 {m : Nat → Nat} (h : KM m) : rd m 1306 = 62 := h 1306 (by decide)
theorem kb_1307 {m : Nat → Nat} (h : KM m) : rd m 1307 = 45 := h 1307 (by decide)
theorem kb_1308 {m : Nat → Nat} (h : KM m) : rd m 1308 = 211 := h 1308 (by decide)
theorem kb_1309 {m : Nat → Nat} (h : KM m) : rd m 1309 = 3 := h 1309 (by decide)
theorem kb_1310 {m : Nat → Nat} (h : KM m) : rd m 1310 = 241 := h 1310 (by decide)
theorem kb_1311 {m : Nat → Nat} (h : KM m) : rd m 1311 = 198 := h 1311 (by decide)
theorem kb_1312 {m : Nat → Nat} (h : KM m) : rd m 1312 = 48 := h 1312 (by decide)
theorem kb_1313 {m : Nat → Nat} (h : KM m) : rd m 1313 = 211 := h 1313 (by decide)
theorem kb_1314 {m : Nat → Nat} (h : KM m) : rd m 1314 = 3 := h 1314 (by decide)
theorem kb_1315 {m : Nat → Nat} (h : KM m) : rd m 1315 = 16 := h 1315 (by decide)
theorem kb_1316 {m : Nat → Nat} (h : KM m) : rd m 1316 = 249 := h 1316 (by decide)
theorem kb_1317 {m : Nat → Nat} (h : KM m) : rd m 1317 = 201 := h 1317 (by decide)
theorem kb_1318 {m : Nat → Nat} (h : KM m) : rd m 1318 = 175 := h 1318 (by decide)
theorem kb_1319 {m : Nat → Nat} (h : KM m) : rd m 1319 = 203 := h 1319 (by decide)
theorem kb_1320 {m : Nat → Nat} (h : KM m) : rd m 1320 = 124 := h 1320 (by decide)
theorem kb_1321 {m : Nat → Nat} (h : KM m) : rd m 1321 = 40 := h 1321 (by decide)
theorem kb_1322 {m : Nat → Nat} (h : KM m) : rd m 1322 = 7 := h 1322 (by decide)
theorem kb_1323 {m : Nat → Nat} (h : KM m) : rd m 1323 = 213 := h 1323 (by decide)
theorem kb_1324 {m : Nat → Nat} (h : KM m) : rd m 1324 = 205 := h 1324 (by decide)
theorem kb_1325 {m : Nat → Nat} (h : KM m) : rd m 1325 = 55 := h 1325 (by decide)
theorem kb_1326 {m : Nat → Nat} (h : KM m) : rd m 1326 = 6 := h 1326 (by decide)
theorem kb_1327 {m : Nat → Nat} (h : KM m) : rd m 1327 = 209 := h 1327 (by decide)
theorem kb_1328 {m : Nat → Nat} (h : KM m) : rd m 1328 = 62 := h 1328 (by decide)
theorem kb_1329 {m : Nat → Nat} (h : KM m) : rd m 1329 = 1 := h 1329 (by decide)
theorem kb_1330 {m : Nat → Nat} (h : KM m) : rd m 1330 = 50 := h 1330 (by decide)
theorem kb_1331 {m : Nat → Nat} (h : KM m) : rd m 1331 = 243 := h 1331 (by decide)
theorem kb_1332 {m : Nat → Nat} (h : KM m) : rd m 1332 = 0 := h 1332 (by decide)
theorem kb_1333 {m : Nat → Nat} (h : KM m) : rd m 1333 = 195 := h 1333 (by decide)
theorem kb_1334 {m : Nat → Nat} (h : KM m) : rd m 1334 = 222 := h 1334 (by decide)
theorem kb_1335 {m : Nat → Nat} (h : KM m) : rd m 1335 = 4 := h 1335 (by decide)
theorem kb_1454 {m : Nat → Nat} (h : KM m) : rd m 1454 = 205 := h 1454 (by decide)
theorem kb_1455 {m : Nat → Nat} (h : KM m) : rd m 1455 = 148 := h 1455 (by decide)
theorem kb_1456 {m : Nat → Nat} (h : KM m) : rd m 1456 = 6 := h 1456 (by decide)
theorem kb_1457 {m : Nat → Nat} (h : KM m) : rd m 1457 = 237 := h 1457 (by decide)
theorem kb_1458 {m : Nat → Nat} (h : KM m) : rd m 1458 = 91 := h 1458 (by decide)
theorem kb_1459 {m : Nat → Nat} (h : KM m) : rd m 1459 = 252 := h 1459 (by decide)
theorem kb_1460 {m : Nat → Nat} (h : KM m) : rd m 1460 = 0 := h 1460 (by decide)
theorem kb_1461 {m : Nat → Nat} (h : KM m) : rd m 1461 = 42 := h 1461 (by decide)
theorem kb_1462 {m : Nat → Nat} (h : KM m) : rd m 1462 = 250 := h 1462 (by decide)
theorem kb_1463 {m : Nat → Nat} (h : KM m) : rd m 1463 = 0 := h 1463 (by decide)
theorem kb_1464 {m : Nat → Nat} (h : KM m) : rd m 1464 = 183 := h 1464 (by decide)
theorem kb_1465 {m : Nat → Nat} (h : KM m) : rd m 1465 = 40 := h 1465 (by decide)
theorem kb_1466 {m : Nat → Nat} (h : KM m) : rd m 1466 = 9 := h 1466 (by decide)
theorem kb_1467 {m : Nat → Nat} (h : KM m) : rd m 1467 = 229 := h 1467 (by decide)
theorem kb_1468 {m : Nat → Nat} (h : KM m) : rd m 1468 = 213 := h 1468 (by decide)
theorem kb_1469 {m : Nat → Nat} (h : KM m) : rd m 1469 = 205 := h 1469 (by decide)
theorem kb_1470 {m : Nat → Nat} (h : KM m) : rd m 1470 = 103 := h 1470 (by decide)
theorem kb_1471 {m : Nat → Nat} (h : KM m) : rd m 1471 = 0 := h 1471 (by decide)
theorem kb_1472 {m : Nat → Nat} (h : KM m) : rd m 1472 = 209 := h 1472 (by decide)
theorem kb_1473 {m : Nat → Nat} (h : KM m) : rd m 1473 = 225 := h 1473 (by decide)
theorem kb_1474 {m : Nat → Nat} (h : KM m) : rd m 1474 = 24 := h 1474 (by decide)
theorem kb_1475 {m : Nat → Nat} (h : KM m) : rd m 1475 = 5 := h 1475 (by decide)
theorem kb_1476 {m : Nat → Nat} (h : KM m) : rd m 1476 = 229 := h 1476 (by decide)
theorem kb_1477 {m : Nat → Nat} (h : KM m) : rd m 1477 = 183 := h 1477 (by decide)
theorem kb_1478 {m : Nat → Nat} (h : KM m) : rd m 1478 = 237 := h 1478 (by decide)
theorem kb_1479 {m : Nat → Nat} (h : KM m) : rd m 1479 = 82 := h 1479 (by decide)
theorem kb_1480 {m : Nat → Nat} (h : KM m) : rd m 1480 = 225 := h 1480 (by decide)
theorem kb_1481 {m : Nat → Nat} (h : KM m) : rd m 1481 = 193 := h 1481 (by decide)
theorem kb_1482 {m : Nat → Nat} (h : KM m) : rd m 1482 = 56 := h 1482 (by decide)
theorem kb_1483 {m : Nat → Nat} (h : KM m) : rd m 1483 = 10 := h 1483 (by decide)
theorem kb_1484 {m : Nat → Nat} (h : KM m) : rd m 1484 = 237 := h 1484 (by decide)
theorem kb_1485 {m : Nat → Nat} (h : KM m) : rd m 1485 = 82 := h 1485 (by decide)
theorem kb_1486 {m : Nat → Nat} (h : KM m) : rd m 1486 = 183 := h 1486 (by decide)
theorem kb_1487 {m : Nat → Nat} (h : KM m) : rd m 1487 = 237 := h 1487 (by decide)
theorem kb_1488 {m : Nat → Nat} (h : KM m) : rd m 1488 = 66 := h 1488 (by decide)
theorem kb_1489 {m : Nat → Nat} (h : KM m) : rd m 1489 = 56 := h 1489 (by decide)
theorem kb_1490 {m : Nat → Nat} (h : KM m) : rd m 1490 = 3 := h 1490 (by decide)
theorem kb_1491 {m : Nat → Nat} (h : KM m) : rd m 1491 = 235 := h 1491 (by decide)
theorem kb_1492 {m : Nat → Nat} (h : KM m) : rd m 1492 = 9 := h 1492 (by decide)
theorem kb_1493 {m : Nat → Nat} (h : KM m) : rd m 1493 = 183 := h 1493 (by decide)
theorem kb_1494 {m : Nat → Nat} (h : KM m) : rd m 1494 = 201 := h 1494 (by decide)
theorem kb_1540 {m : Nat → Nat} (h : KM m) : rd m 1540 = 203 := h 1540 (by decide)
theorem kb_1541 {m : Nat → Nat} (h : KM m) : rd m 1541 = 124 := h 1541 (by decide)
theorem kb_1542 {m : Nat → Nat} (h : KM m) : rd m 1542 = 202 := h 1542 (by decide)
theorem kb_1543 {m : Nat → Nat} (h : KM m) : rd m 1543 = 91 := h 1543 (by decide)
theorem kb_1544 {m : Nat → Nat} (h : KM m) : rd m 1544 = 0 := h 1544 (by decide)
theorem kb_1545 {m : Nat → Nat} (h : KM m) : rd m 1545 = 195 := h 1545 (by decide)
theorem kb_1546 {m : Nat → Nat} (h : KM m) : rd m 1546 = 70 := h 1546 (by decide)
theorem kb_1547 {m : Nat → Nat} (h : KM m) : rd m 1547 = 0 := h 1547 (by decide)
theorem kb_1548 {m : Nat → Nat} (h : KM m) : rd m 1548 = 211 := h 1548 (by decide)
theorem kb_1549 {m : Nat → Nat} (h : KM m) : rd m 1549 = 2 := h 1549 (by decide)
theorem kb_1550 {m : Nat → Nat} (h : KM m) : rd m 1550 = 118 := h 1550 (by decide)
theorem kb_1586 {m : Nat → Nat} (h : KM m) : rd m 1586 = 62 := h 1586 (by decide)
theorem kb_1587 {m : Nat → Nat} (h : KM m) : rd m 1587 = 8 := h 1587 (by decide)
theorem kb_1588 {m : Nat → Nat} (h : KM m) : rd m 1588 = 195 := h 1588 (by decide)
theorem kb_1589 {m : Nat → Nat} (h : KM m) : rd m 1589 = 12 := h 1589 (by decide)
theorem kb_1590 {m : Nat → Nat} (h : KM m) : rd m 1590 = 6 := h 1590 (by decide)
theorem kb_1591 {m : Nat → Nat} (h : KM m) : rd m 1591 = 124 := h 1591 (by decide)
theorem kb_1592 {m : Nat → Nat} (h : KM m) : rd m 1592 = 183 := h 1592 (by decide)
theorem kb_1593 {m : Nat → Nat} (h : KM m) : rd m 1593 = 240 := h 1593 (by decide)
theorem kb_1594 {m : Nat → Nat} (h : KM m) : rd m 1594 = 175 := h 1594 (by decide)
theorem kb_1595 {m : Nat → Nat} (h : KM m) : rd m 1595 = 149 := h 1595 (by decide)
theorem kb_1596 {m : Nat → Nat} (h : KM m) : rd m 1596 = 111 := h 1596 (by decide)
theorem kb_1597 {m : Nat → Nat} (h : KM m) : rd m 1597 = 159 := h 1597 (by decide)
theorem kb_1598 {m : Nat → Nat} (h : KM m) : rd m 1598 = 148 := h 1598 (by decide)
theorem kb_1599 {m : Nat → Nat} (h : KM m) : rd m 1599 = 103 := h 1599 (by decide)
theorem kb_1600 {m : Nat → Nat} (h : KM m) : rd m 1600 = 201 := h 1600 (by decide)
theorem kb_1601 {m : Nat → Nat} (h : KM m) : rd m 1601 = 122 := h 1601 (by decide)
theorem kb_1602 {m : Nat → Nat} (h : KM m) : rd m 1602 = 179 := h 1602 (by decide)
theorem kb_1603 {m : Nat → Nat} (h : KM m) : rd m 1603 = 202 := h 1603 (by decide)
theorem kb_1604 {m : Nat → Nat} (h : KM m) : rd m 1604 = 73 := h 1604 (by decide)
theorem kb_1605 {m : Nat → Nat} (h : KM m) : rd m 1605 = 0 := h 1605 (by decide)
theorem kb_1606 {m : Nat → Nat} (h : KM m) : rd m 1606 = 68 := h 1606 (by decide)
theorem kb_1607 {m : Nat → Nat} (h : KM m) : rd m 1607 = 77 := h 1607 (by decide)
theorem kb_1608 {m : Nat → Nat} (h : KM m) : rd m 1608 = 33 := h 1608 (by decide)
theorem kb_1609 {m : Nat → Nat} (h : KM m) : rd m 1609 = 0 := h 1609 (by decide)
theorem kb_1610 {m : Nat → Nat} (h : KM m) : rd m 1610 = 0 := h 1610 (by decide)
theorem kb_1611 {m : Nat → Nat} (h : KM m) : rd m 1611 = 62 := h 1611 (by decide)
theorem kb_1612 {m : Nat → Nat} (h : KM m) : rd m 1612 = 16 := h 1612 (by decide)
theorem kb_1613 {m : Nat → Nat} (h : KM m) : rd m 1613 = 203 := h 1613 (by decide)
theorem kb_1614 {m : Nat → Nat} (h : KM m) : rd m 1614 = 33 := h 1614 (by decide)
theorem kb_1615 {m : Nat → Nat} (h : KM m) : rd m 1615 = 203 := h 1615 (by decide)
theorem kb_1616 {m : Nat → Nat} (h : KM m) : rd m 1616 = 16 := h 1616 (by decide)
theorem kb_1617 {m : Nat → Nat} (h : KM m) : rd m 1617 = 237 := h 1617 (by decide)
theorem kb_1618 {m : Nat → Nat} (h : KM m) : rd m 1618 = 106 := h 1618 (by decide)
theorem kb_1619 {m : Nat → Nat} (h : KM m) : rd m 1619 = 56 := h 1619 (by decide)
theorem kb_1620 {m : Nat → Nat} (h : KM m) : rd m 1620 = 7 := h 1620 (by decide)
theorem kb_1621 {m : Nat → Nat} (h : KM m) : rd m 1621 = 237 := h 1621 (by decide)
theorem kb_1622 {m : Nat → Nat} (h : KM m) : rd m 1622 = 82 := h 1622 (by decide)
theorem kb_1623 {m : Nat → Nat} (h : KM m) : rd m 1623 = 48 := h 1623 (by decide)
theorem kb_1624 {m : Nat → Nat} (h : KM m) : rd m 1624 = 6 := h 1624 (by decide)
theorem kb_1625 {m : Nat → Nat} (h : KM m) : rd m 1625 = 25 := h 1625 (by decide)
theorem kb_1626 {m : Nat → Nat} (h : KM m) : rd m 1626 = 24 := h 1626 (by decide)
theorem kb_1627 {m : Nat → Nat} (h : KM m) : rd m 1627 = 4 := h 1627 (by decide)
theorem kb_1628 {m : Nat → Nat} (h : KM m) : rd m 1628 = 183 := h 1628 (by decide)
theorem kb_1629 {m : Nat → Nat} (h : KM m) : rd m 1629 = 237 := h 1629 (by decide)
theorem kb_1630 {m : Nat → Nat} (h : KM m) : rd m 1630 = 82 := h 1630 (by decide)
theorem kb_1631 {m : Nat → Nat} (h : KM m) : rd m 1631 = 12 := h 1631 (by decide)
theorem kb_1632 {m : Nat → Nat} (h : KM m) : rd m 1632 = 61 := h 1632 (by decide)
theorem kb_1633 {m : Nat → Nat} (h : KM m) : rd m 1633 = 32 := h 1633 (by decide)
theorem kb_1634 {m : Nat → Nat} (h : KM m) : rd m 1634 = 234 := h 1634 (by decide)
theorem kb_1635 {m : Nat → Nat} (h : KM m) : rd m 1635 = 201 := h 1635 (by decide)
theorem kb_1684 {m : Nat → Nat} (h : KM m) : rd m 1684 = 237 := h 1684 (by decide)
theorem kb_1685 {m : Nat → Nat} (h : KM m) : rd m 1685 = 83 := h 1685 (by decide)
theorem kb_1686 {m : Nat → Nat} (h : KM m) : rd m 1686 = 250 := h 1686 (by decide)
theorem kb_1687 {m : Nat → Nat} (h : KM m) : rd m 1687 = 0 := h 1687 (by decide)
theorem kb_1688 {m : Nat → Nat} (h : KM m) : rd m 1688 = 34 := h 1688 (by decide)
theorem kb_1689 {m : Nat → Nat} (h : KM m) : rd m 1689 = 252 := h 1689 (by decide)
theorem kb_1690 {m : Nat → Nat} (h : KM m) : rd m 1690 = 0 := h 1690 (by decide)
theorem kb_1691 {m : Nat → Nat} (h : KM m) : rd m 1691 = 193 := h 1691 (by decide)
theorem kb_1692 {m : Nat → Nat} (h : KM m) : rd m 1692 = 225 := h 1692 (by decide)
theorem kb_1693 {m : Nat → Nat} (h : KM m) : rd m 1693 = 126 := h 1693 (by decide)
theorem kb_1694 {m : Nat → Nat} (h : KM m) : rd m 1694 = 35 := h 1694 (by decide)
theorem kb_1695 {m : Nat → Nat} (h : KM m) : rd m 1695 = 94 := h 1695 (by decide)
theorem kb_1696 {m : Nat → Nat} (h : KM m) : rd m 1696 = 35 := h 1696 (by decide)
theorem kb_1697 {m : Nat → Nat} (h : KM m) : rd m 1697 = 86 := h 1697 (by decide)
theorem kb_1698 {m : Nat → Nat} (h : KM m) : rd m 1698 = 35 := h 1698 (by decide)
theorem kb_1699 {m : Nat → Nat} (h : KM m) : rd m 1699 = 229 := h 1699 (by decide)
theorem kb_1700 {m : Nat → Nat} (h : KM m) : rd m 1700 = 213 := h 1700 (by decide)
theorem kb_1701 {m : Nat → Nat} (h : KM m) : rd m 1701 = 197 := h 1701 (by decide)
theorem kb_1702 {m : Nat → Nat} (h : KM m) : rd m 1702 = 201 := h 1702 (by decide)
theorem k_10 {a bc de hl ix sp : Nat} {f : Int32} {m : Nat → Nat} {P : PT} {G : GE} (hm : KM m) (h0 : sp + 2 < 65536) : RL G a f bc de hl ix sp 10 m P = RL G a f bc de hl ix (sp + 2) (wd m sp) m P := by
  have e := fun (h0 : sp + 2 < 65536) => rl_C9 (pc := 10) (kb_10 hm) (by decide) (a := a) (f := f) (bc := bc) (de := de) (hl := hl) (ix := ix) (sp := sp) (P := P) (G := G) h0
  try simp (config := {decide := false}) only [wd, jr, Nat.reduceAdd, Nat.reduceMul, Nat.reduceMod, Nat.reduceDiv, Nat.reduceLT, Nat.reduceSub, ↓reduceIte, forall_const, true_implies] at e
  exact e h0
theorem k_64 {a bc de hl ix sp : Nat} {f : Int32} {m : Nat → Nat} {P : PT} {G : GE} (hm : KM m)  : RL G a f bc de hl ix sp 64 m P = RL G a f bc de hl ix sp 256 m P := by
  have e := fun (_ : True) => rl_C3 (pc := 64) (kb_64 hm) (by decide) (a := a) (f := f) (bc := bc) (de := de) (hl := hl) (ix := ix) (sp := sp) (P := P) (G := G) 
  try simp (config := {decide := false}) only [wd, jr, Nat.reduceAdd, Nat.reduceMul, Nat.reduceMod, Nat.reduceDiv, Nat.reduceLT, Nat.reduceSub, ↓reduceIte, forall_const, true_implies, kb_65 hm, kb_66 hm] at e
  exact e 
theorem k_67 {a bc de hl ix sp : Nat} {f : Int32} {m : Nat → Nat} {P : PT} {G : GE} (hm : KM m)  : RL G a f bc de hl ix sp 67 m P = RL G a f bc de hl ix sp 261 m P := by
  have e := fun (_ : True) => rl_C3 (pc := 67) (kb_67 hm) (by decide) (a := a) (f := f) (bc := bc) (de := de) (hl := hl) (ix := ix) (sp := sp) (P := P) (G := G) 
  try simp (config := {decide := false}) only [wd, jr, Nat.reduceAdd, Nat.reduceMul, Nat.reduceMod, Nat.reduceDiv, Nat.reduceLT, Nat.reduceSub, ↓reduceIte, forall_const, true_implies, kb_68 hm, kb_69 hm] at e
  exact e 
theorem k_70 {a bc de hl ix sp : Nat} {f : Int32} {m : Nat → Nat} {P : PT} {G : GE} (hm : KM m)  : RL G a f bc de hl ix sp 70 m P = RL G a f bc de hl ix sp 266 m P := by
  have e := fun (_ : True) => rl_C3 (pc := 70) (kb_70 hm) (by decide) (a := a) (f := f) (bc := bc) (de := de) (hl := hl) (ix := ix) (sp := sp) (P := P) (G := G) 
  try simp (config := {decide := false}) only [wd, jr, Nat.reduceAdd, Nat.reduceMul, Nat.reduceMod, Nat.reduceDiv, Nat.reduceLT, Nat.reduceSub, ↓reduceIte, forall_const, true_implies, kb_71 hm, kb_72 hm] at e
  exact e 
theorem k_73 {a bc de hl ix sp : Nat} {f : Int32} {m : Nat → Nat} {P : PT} {G : GE} (hm : KM m)  : RL G a f bc de hl ix sp 73 m P = RL G a f bc de hl ix sp 271 m P := by
  have e := fun (_ : True) => rl_C3 (pc := 73) (kb_73 hm) (by decide) (a := a) (f := f) (bc := bc) (de := de) (hl := hl) (ix := ix) (sp := sp) (P := P) (G := G) 
  try simp (config := {decide := false}) only [wd, jr, Nat.reduceAdd, Nat.reduceMul, Nat.reduceMod, Nat.reduceDiv, Nat.reduceLT, Nat.reduceSub, ↓reduceIte, forall_const, true_implies, kb_74 hm, kb_75 hm] at e
  exact e 
theorem k_91 {a bc de hl ix sp : Nat} {f : Int32} {m : Nat → Nat} {P : PT} {G : GE} (hm : KM m)  : RL G a f bc de hl ix sp 91 m P = RL G a f bc de hl ix sp 359 m P := by
  have e := fun (_ : True) => rl_C3 (pc := 91) (kb_91 hm) (by decide) (a := a) (f := f) (bc := bc) (de := de) (hl := hl) (ix := ix) (sp := sp) (P := P) (G := G) 
  try simp (config := {decide := false}) only [wd, jr, Nat.reduceAdd, Nat.reduceMul, Nat.reduceMod, Nat.reduceDiv, Nat.reduceLT, Nat.reduceSub, ↓reduceIte, forall_const, true_implies, kb_92 hm, kb_93 hm] at e
  exact e 
theorem k_103 {a bc de hl ix sp : Nat} {f : Int32} {m : Nat → Nat} {P : PT} {G : GE} (hm : KM m)  : RL G a f bc de hl ix sp 103 m P = RL G a f bc de hl ix sp 439 m P := by
  have e := fun (_ : True) => rl_C3 (pc := 103) (kb_103 hm) (by decide) (a := a) (f := f) (bc := bc) (de := de) (hl := hl) (ix := ix) (sp := sp) (P := P) (G := G) 
  try simp (config := {decide := false}) only [wd, jr, Nat.reduceAdd, Nat.reduceMul, Nat.reduceMod, Nat.reduceDiv, Nat.reduceLT, Nat.reduceSub, ↓reduceIte, forall_const, true_implies, kb_104 hm, kb_105 hm] at e
  exact e 
theorem k_106 {a bc de hl ix sp : Nat} {f : Int32} {m : Nat → Nat} {P : PT} {G : GE} (hm : KM m)  : RL G a f bc de hl ix sp 106 m P = RL G a f bc de hl ix sp 451 m P := by
  have e := fun (_ : True) => rl_C3 (pc := 106) (kb_106 hm) (by decide) (a := a) (f := f) (bc := bc) (de := de) (hl := hl) (ix := ix) (sp := sp) (P := P) (G := G) 
  try simp (config := {decide := false}) only [wd, jr, Nat.reduceAdd, Nat.reduceMul, Nat.reduceMod, Nat.reduceDiv, Nat.reduceLT, Nat.reduceSub, ↓reduceIte, forall_const, true_implies, kb_107 hm, kb_108 hm] at e
  exact e 
theorem k_109 {a bc de hl ix sp : Nat} {f : Int32} {m : Nat → Nat} {P : PT} {G : GE} (hm : KM m)  : RL G a f bc de hl ix sp 109 m P = RL G a f bc de hl ix sp 476 m P := by
  have e := fun (_ : True) => rl_C3 (pc := 109) (kb_109 hm) (by decide) (a := a) (f := f) (bc := bc) (de := de) (hl := hl) (ix := ix) (sp := sp) (P := P) (G := G) 
  try simp (config := {decide := false}) only [wd, jr, Nat.reduceAdd, Nat.reduceMul, Nat.reduceMod, Nat.reduceDiv, Nat.reduceLT, Nat.reduceSub, ↓reduceIte, forall_const, true_implies, kb_110 hm, kb_111 hm] at e
  exact e 
theorem k_118 {a bc de hl ix sp : Nat} {f : Int32} {m : Nat → Nat} {P : PT} {G : GE} (hm : KM m)  : RL G a f bc de hl ix sp 118 m P = RL G a f bc de hl ix sp 526 m P := by
  have e := fun (_ : True) => rl_C3 (pc := 118) (kb_118 hm) (by decide) (a := a) (f := f) (bc := bc) (de := de) (hl := hl) (ix := ix) (sp := sp) (P := P) (G := G) 
  try simp (config := {decide := false}) only [wd, jr, Nat.reduceAdd, Nat.reduceMul, Nat.reduceMod, Nat.reduceDiv, Nat.reduceLT, Nat.reduceSub, ↓reduceIte, forall_const, true_implies, kb_119 hm, kb_120 hm] at e
  exact e 
theorem k_121 {a bc de hl ix sp : Nat} {f : Int32} {m : Nat → Nat} {P : PT} {G : GE} (hm : KM m)  : RL G a f bc de hl ix sp 121 m P = RL G a f bc de hl ix sp 558 m P := by
  have e := fun (_ : True) => rl_C3 (pc := 121) (kb_121 hm) (by decide) (a := a) (f := f) (bc := bc) (de := de) (hl := hl) (ix := ix) (sp := sp) (P := P) (G := G) 
  try simp (config := {decide := false}) only [wd, jr, Nat.reduceAdd, Nat.reduceMul, Nat.reduceMod, Nat.reduceDiv, Nat.reduceLT, Nat.reduceSub, ↓reduceIte, forall_const, true_implies, kb_122 hm, kb_123 hm] at e
  exact e 
theorem k_139 {a bc de hl ix sp : Nat} {f : Int32} {m : Nat → Nat} {P : PT} {G : GE} (hm : KM m)  : RL G a f bc de hl ix sp 139 m P = RL G a f bc de hl ix sp 717 m P := by
  have e := fun (_ : True) => rl_C3 (pc := 139) (kb_139 hm) (by decide) (a := a) (f := f) (bc := bc) (de := de) (hl := hl) (ix := ix) (sp := sp) (P := P) (G := G) 
  try simp (config := {decide := false}) only [wd, jr, Nat.reduceAdd, Nat.reduceMul, Nat.reduceMod, Nat.reduceDiv, Nat.reduceLT, Nat.reduceSub, ↓reduceIte, forall_const, true_implies, kb_140 hm, kb_141 hm] at e
  exact e 
theorem k_142 {a bc de hl ix sp : Nat} {f : Int32} {m : Nat → Nat} {P : PT} {G : GE} (hm : KM m)  : RL G a f bc de hl ix sp 142 m P = RL G a f bc de hl ix sp 779 m P := by
  have e := fun (_ : True) => rl_C3 (pc := 142) (kb_142 hm) (by decide) (a := a) (f := f) (bc := bc) (de := de) (hl := hl) (ix := ix) (sp := sp) (P := P) (G := G) 
  try simp (config := {decide := false}) only [wd, jr, Nat.reduceAdd, Nat.reduceMul, Nat.reduceMod, Nat.reduceDiv, Nat.reduceLT, Nat.reduceSub, ↓reduceIte, forall_const, true_implies, kb_143 hm, kb_144 hm] at e
  exact e 
theorem k_175 {a bc de hl ix sp : Nat} {f : Int32} {m : Nat → Nat} {P : PT} {G : GE} (hm : KM m)  : RL G a f bc de hl ix sp 175 m P = RL G a f bc de hl ix sp 1318 m P := by
  have e := fun (_ : True) => rl_C3 (pc := 175) (kb_175 hm) (by decide) (a := a) (f := f) (bc := bc) (de := de) (hl := hl) (ix := ix) (sp := sp) (P := P) (G := G) 
  try simp (config := {decide := false}) only [wd, jr, Nat.reduceAdd, Nat.reduceMul, Nat.reduceMod, Nat.reduceDiv, Nat.reduceLT, Nat.reduceSub, ↓reduceIte, forall_const, true_implies, kb_176 hm, kb_177 hm] at e
  exact e 
theorem k_208 {a bc de hl ix sp : Nat} {f : Int32} {m : Nat → Nat} {P : PT} {G : GE} (hm : KM m)  : RL G a f bc de hl ix sp 208 m P = RL G a f bc de hl ix sp 1454 m P := by
  have e := fun (_ : True) => rl_C3 (pc := 208) (kb_208 hm) (by decide) (a := a) (f := f) (bc := bc) (de := de) (hl := hl) (ix := ix) (sp := sp) (P := P) (G := G) 
  try simp (config := {decide := false}) only [wd, jr, Nat.reduceAdd, Nat.reduceMul, Nat.reduceMod, Nat.reduceDiv, Nat.reduceLT, Nat.reduceSub, ↓reduceIte, forall_const, true_implies, kb_209 hm, kb_210 hm] at e
  exact e 
theorem k_214 {a bc de hl ix sp : Nat} {f : Int32} {m : Nat → Nat} {P : PT} {G : GE} (hm : KM m)  : RL G a f bc de hl ix sp 214 m P = RL G a f bc de hl ix sp 1540 m P := by
  have e := fun (_ : True) => rl_C3 (pc := 214) (kb_214 hm) (by decide) (a := a) (f := f) (bc := bc) (de := de) (hl := hl) (ix := ix) (sp := sp) (P := P) (G := G) 
  try simp (config := {decide := false}) only [wd, jr, Nat.reduceAdd, Nat.reduceMul, Nat.reduceMod, Nat.reduceDiv, Nat.reduceLT, Nat.reduceSub, ↓reduceIte, forall_const, true_implies, kb_215 hm, kb_216 hm] at e
  exact e 
theorem k_256 {a bc de hl ix sp : Nat} {f : Int32} {m : Nat → Nat} {P : PT} {G : GE} (hm : KM m)  : RL G a f bc de hl ix sp 256 m P = RL G 3 f bc de hl ix sp 258 m P := by
  have e := fun (_ : True) => rl_3E (pc := 256) (kb_256 hm) (by decide) (a := a) (f := f) (bc := bc) (de := de) (hl := hl) (ix := ix) (sp := sp) (P := P) (G := G) 
  try simp (config := {decide := false}) only [wd, jr, Nat.reduceAdd, Nat.reduceMul, Nat.reduceMod, Nat.reduceDiv, Nat.reduceLT, Nat.reduceSub, ↓reduceIte, forall_const, true_implies, kb_257 hm] at e
  exact e 
theorem k_258 {a bc de hl ix sp : Nat} {f : Int32} {m : Nat → Nat} {P : PT} {G : GE} (hm : KM m)  : RL G a f bc de hl ix sp 258 m P = RL G a f bc de hl ix sp 1548 m P := by
  have e := fun (_ : True) => rl_C3 (pc := 258) (kb_258 hm) (by decide) (a := a) (f := f) (bc := bc) (de := de) (hl := hl) (ix := ix) (sp := sp) (P := P) (G := G) 
  try simp (config := {decide := false}) only [wd, jr, Nat.reduceAdd, Nat.reduceMul, Nat.reduceMod, Nat.reduceDiv, Nat.reduceLT, Nat.reduceSub, ↓reduceIte, forall_const, true_implies, kb_259 hm, kb_260 hm] at e
  exact e 
theorem k_261 {a bc de hl ix sp : Nat} {f : Int32} {m : Nat → Nat} {P : PT} {G : GE} (hm : KM m)  : RL G a f bc de hl ix sp 261 m P = RL G 1 f bc de hl ix sp 263 m P := by
  have e := fun (_ : True) => rl_3E (pc := 261) (kb_261 hm) (by decide) (a := a) (f := f) (bc := bc) (de := de) (hl := hl) (ix := ix) (sp := sp) (P := P) (G := G) 
  try simp (config := {decide := false}) only [wd, jr, Nat.reduceAdd, Nat.reduceMul, Nat.reduceMod, Nat.reduceDiv, Nat.reduceLT, Nat.reduceSub, ↓reduceIte, forall_const, true_implies, kb_262 hm] at e
  exact e 
theorem k_263 {a bc de hl ix sp : Nat} {f : Int32} {m : Nat → Nat} {P : PT} {G : GE} (hm : KM m)  : RL G a f bc de hl ix sp 263 m P = RL G a f bc de hl ix sp 1548 m P := by
  have e := fun (_ : True) => rl_C3 (pc := 263) (kb_263 hm) (by decide) (a := a) (f := f) (bc := bc) (de := de) (hl := hl) (ix := ix) (sp := sp) (P := P) (G := G) 
  try simp (config := {decide := false}) only [wd, jr, Nat.reduceAdd, Nat.reduceMul, Nat.reduceMod, Nat.reduceDiv, Nat.reduceLT, Nat.reduceSub, ↓reduceIte, forall_const, true_implies, kb_264 hm, kb_265 hm] at e
  exact e 
theorem k_266 {a bc de hl ix sp : Nat} {f : Int32} {m : Nat → Nat} {P : PT} {G : GE} (hm : KM m)  : RL G a f bc de hl ix sp 266 m P = RL G 2 f bc de hl ix sp 268 m P := by
  have e := fun (_ : True) => rl_3E (pc := 266) (kb_266 hm) (by decide) (a := a) (f := f) (bc := bc) (de := de) (hl := hl) (ix := ix) (sp := sp) (P := P) (G := G) 
  try simp (config := {decide := false}) only [wd, jr, Nat.reduceAdd, Nat.reduceMul, Nat.reduceMod, Nat.reduceDiv, Nat.reduceLT, Nat.reduceSub, ↓reduceIte, forall_const, true_implies, kb_267 hm] at e
  exact e 
theorem k_268 {a bc de hl ix sp : Nat} {f : Int32} {m : Nat → Nat} {P : PT} {G : GE} (hm : KM m)  : RL G a f bc de hl ix sp 268 m P = RL G a f bc de hl ix sp 1548 m P := by
  have e := fun (_ : True) => rl_C3 (pc := 268) (kb_268 hm) (by decide) (a := a) (f := f) (bc := bc) (de := de) (hl := hl) (ix := ix) (sp := sp) (P := P) (G := G) 
  try simp (config := {decide := false}) only [wd, jr, Nat.reduceAdd, Nat.reduceMul, Nat.reduceMod, Nat.reduceDiv, Nat.reduceLT, Nat.reduceSub, ↓reduceIte, forall_const, true_implies, kb_269 hm, kb_270 hm] at e
  exact e 
theorem k_271 {a bc de hl ix sp : Nat} {f : Int32} {m : Nat → Nat} {P : PT} {G : GE} (hm : KM m)  : RL G a f bc de hl ix sp 271 m P = RL G 4 f bc de hl ix sp 273 m P := by
  have e := fun (_ : True) => rl_3E (pc := 271) (kb_271 hm) (by decide) (a := a) (f := f) (bc := bc) (de := de) (hl := hl) (ix := ix) (sp := sp) (P := P) (G := G) 
  try simp (config := {decide := false}) only [wd, jr, Nat.reduceAdd, Nat.reduceMul, Nat.reduceMod, Nat.reduceDiv, Nat.reduceLT, Nat.reduceSub, ↓reduceIte, forall_const, true_implies, kb_272 hm] at e
  exact e 
theorem k_273 {a bc de hl ix sp : Nat} {f : Int32} {m : Nat → Nat} {P : PT} {G : GE} (hm : KM m)  : RL G a f bc de hl ix sp 273 m P = RL G a f bc de hl ix sp 1548 m P := by
  have e := fun (_ : True) => rl_C3 (pc := 273) (kb_273 hm) (by decide) (a := a) (f := f) (bc := bc) (de := de) (hl := hl) (ix := ix) (sp := sp) (P := P) (G := G) 
  try simp (config := {decide := false}) only [wd, jr, Nat.reduceAdd, Nat.reduceMul, Nat.reduceMod, Nat.reduceDiv, Nat.reduceLT, Nat.reduceSub, ↓reduceIte, forall_const, true_implies, kb_274 hm, kb_275 hm] at e
  exact e 
theorem k_359 {a bc de hl ix sp : Nat} {f : Int32} {m : Nat → Nat} {P : PT} {G : GE} (hm : KM m) (h0 : hl < 65536) (h1 : sp + 1 < 65536) : RL G a f bc de hl ix sp 359 m P = RL G a f bc de (wd m sp) ix sp 360 (up (up m sp hl) (sp + 1) (hl / 256)) P := by
  have e := fun (h0 : hl < 65536) (h1 : sp + 1 < 65536) => rl_E3 (pc := 359) (kb_359 hm) (by decide) (a := a) (f := f) (bc := bc) (de := de) (hl := hl) (ix := ix) (sp := sp) (P := P) (G := G) h0 h1
  try simp (config := {decide := false}) only [wd, jr, Nat.reduceAdd, Nat.reduceMul, Nat.reduceMod, Nat.reduceDiv, Nat.reduceLT, Nat.reduceSub, ↓reduceIte, forall_const, true_implies] at e
  exact e h0 h1
theorem k_360 {a bc de hl ix sp : Nat} {f : Int32} {m : Nat → Nat} {P : PT} {G : GE} (hm : KM m) (h0 : hl < 65536) (h1 : de < 65536) : RL G a f bc de hl ix sp 360 m P = RL G a f bc (de / 256 * 256 + (rd m hl)) hl ix sp 361 m P := by
  have e := fun (h0 : hl < 65536) (h1 : de < 65536) => rl_5E (pc := 360) (kb_360 hm) (by decide) (a := a) (f := f) (bc := bc) (de := de) (hl := hl) (ix := ix) (sp := sp) (P := P) (G := G) h0 h1
  try simp (config := {decide := false}) only [wd, jr, Nat.reduceAdd, Nat.reduceMul, Nat.reduceMod, Nat.reduceDiv, Nat.reduceLT, Nat.reduceSub, ↓reduceIte, forall_const, true_implies] at e
  exact e h0 h1
theorem k_361 {a bc de hl ix sp : Nat} {f : Int32} {m : Nat → Nat} {P : PT} {G : GE} (hm : KM m) (h0 : hl < 65536) : RL G a f bc de hl ix sp 361 m P = RL G a f bc de ((hl + 1) % 65536) ix sp 362 m P := by
  have e := fun (h0 : hl < 65536) => rl_23 (pc := 361) (kb_361 hm) (by decide) (a := a) (f := f) (bc := bc) (de := de) (hl := hl) (ix := ix) (sp := sp) (P := P) (G := G) h0
  try simp (config := {decide := false}) only [wd, jr, Nat.reduceAdd, Nat.reduceMul, Nat.reduceMod, Nat.reduceDiv, Nat.reduceLT, Nat.reduceSub, ↓reduceIte, forall_const, true_implies] at e
  exact e h0
theorem k_362 {a bc de hl ix sp : Nat} {f : Int32} {m : Nat → Nat} {P : PT} {G : GE} (hm : KM m) (h0 : hl < 65536) (h1 : de < 65536) : RL G a f bc de hl ix sp 362 m P = RL G a f bc ((rd m hl) * 256 + de % 256) hl ix sp 363 m P := by
  have e := fun (h0 : hl < 65536) (h1 : de < 65536) => rl_56 (pc := 362) (kb_362 hm) (by decide) (a := a) (f := f) (bc := bc) (de := de) (hl := hl) (ix := ix) (sp := sp) (P := P) (G := G) h0 h1
  try simp (config := {decide := false}) only [wd, jr, Nat.reduceAdd, Nat.reduceMul, Nat.reduceMod, Nat.reduceDiv, Nat.reduceLT, Nat.reduceSub, ↓reduceIte, forall_const, true_implies] at e
  exact e h0 h1
theorem k_363 {a bc de hl ix sp : Nat} {f : Int32} {m : Nat → Nat} {P : PT} {G : GE} (hm : KM m) (h0 : hl < 65536) : RL G a f bc de hl ix sp 363 m P = RL G a f bc de ((hl + 1) % 65536) ix sp 364 m P := by
  have e := fun (h0 : hl < 65536) => rl_23 (pc := 363) (kb_363 hm) (by decide) (a := a) (f := f) (bc := bc) (de := de) (hl := hl) (ix := ix) (sp := sp) (P := P) (G := G) h0
  try simp (config := {decide := false}) only [wd, jr, Nat.reduceAdd, Nat.reduceMul, Nat.reduceMod, Nat.reduceDiv, Nat.reduceLT, Nat.reduceSub, ↓reduceIte, forall_const, true_implies] at e
  exact e h0
theorem k_364 {a bc de hl ix sp : Nat} {f : Int32} {m : Nat → Nat} {P : PT} {G : GE} (hm : KM m) (h0 : hl < 65536) (h1 : bc < 65536) : RL G a f bc de hl ix sp 364 m P = RL G a f (bc / 256 * 256 + (rd m hl)) de hl ix sp 365 m P := by
  have e := fun (h0 : hl < 65536) (h1 : bc < 65536) => rl_4E (pc := 364) (kb_364 hm) (by decide) (a := a) (f := f) (bc := bc) (de := de) (hl := hl) (ix := ix) (sp := sp) (P := P) (G := G) h0 h1
  try simp (config := {decide := false}) only [wd, jr, Nat.reduceAdd, Nat.reduceMul, Nat.reduceMod, Nat.reduceDiv, Nat.reduceLT, Nat.reduceSub, ↓reduceIte, forall_const, true_implies] at e
  exact e h0 h1
theorem k_365 {a bc de hl ix sp : Nat} {f : Int32} {m : Nat → Nat} {P : PT} {G : GE} (hm : KM m) (h0 : hl < 65536) : RL G a f bc de hl ix sp 365 m P = RL G a f bc de ((hl + 1) % 65536) ix sp 366 m P := by
  have e := fun (h0 : hl < 65536) => rl_23 (pc := 365) (kb_365 hm) (by decide) (a := a) (f := f) (bc := bc) (de := de) (hl := hl) (ix := ix) (sp := sp) (P := P) (G := G) h0
  try simp (config := {decide := false}) only [wd, jr, Nat.reduceAdd, Nat.reduceMul, Nat.reduceMod, Nat.reduceDiv, Nat.reduceLT, Nat.reduceSub, ↓reduceIte, forall_const, true_implies] at e
  exact e h0
theorem k_366 {a bc de hl ix sp : Nat} {f : Int32} {m : Nat → Nat} {P : PT} {G : GE} (hm : KM m) (h0 : hl < 65536) (h1 : bc < 65536) : RL G a f bc de hl ix sp 366 m P = RL G a f ((rd m hl) * 256 + bc % 256) de hl ix sp 367 m P := by
  have e := fun (h0 : hl < 65536) (h1 : bc < 65536) => rl_46 (pc := 366) (kb_366 hm) (by decide) (a := a) (f := f) (bc := bc) (de := de) (hl := hl) (ix := ix) (sp := sp) (P := P) (G := G) h0 h1
  try simp (config := {decide := false}) only [wd, jr, Nat.reduceAdd, Nat.reduceMul, Nat.reduceMod, Nat.reduceDiv, Nat.reduceLT, Nat.reduceSub, ↓reduceIte, forall_const, true_implies] at e
  exact e h0 h1
theorem k_367 {a bc de hl ix sp : Nat} {f : Int32} {m : Nat → Nat} {P : PT} {G : GE} (hm : KM m) (h0 : hl < 65536) : RL G a f bc de hl ix sp 367 m P = RL G a f bc de ((hl + 1) % 65536) ix sp 368 m P := by
  have e := fun (h0 : hl < 65536) => rl_23 (pc := 367) (kb_367 hm) (by decide) (a := a) (f := f) (bc := bc) (de := de) (hl := hl) (ix := ix) (sp := sp) (P := P) (G := G) h0
  try simp (config := {decide := false}) only [wd, jr, Nat.reduceAdd, Nat.reduceMul, Nat.reduceMod, Nat.reduceDiv, Nat.reduceLT, Nat.reduceSub, ↓reduceIte, forall_const, true_implies] at e
  exact e h0
theorem k_368 {a bc de hl ix sp : Nat} {f : Int32} {m : Nat → Nat} {P : PT} {G : GE} (hm : KM m) (h0 : hl < 65536) (h1 : sp + 1 < 65536) : RL G a f bc de hl ix sp 368 m P = RL G a f bc de (wd m sp) ix sp 369 (up (up m sp hl) (sp + 1) (hl / 256)) P := by
  have e := fun (h0 : hl < 65536) (h1 : sp + 1 < 65536) => rl_E3 (pc := 368) (kb_368 hm) (by decide) (a := a) (f := f) (bc := bc) (de := de) (hl := hl) (ix := ix) (sp := sp) (P := P) (G := G) h0 h1
  try simp (config := {decide := false}) only [wd, jr, Nat.reduceAdd, Nat.reduceMul, Nat.reduceMod, Nat.reduceDiv, Nat.reduceLT, Nat.reduceSub, ↓reduceIte, forall_const, true_implies] at e
  exact e h0 h1
theorem k_369 {a bc de hl ix sp : Nat} {f : Int32} {m : Nat → Nat} {P : PT} {G : GE} (hm : KM m) (h0 : a < 256) : RL G a f bc de hl ix sp 369 m P = RL G (a ||| a) (fLo (a ||| a) false) bc de hl ix sp 370 m P := by
  have e := fun (h0 : a < 256) => rl_B7 (pc := 369) (kb_369 hm) (by decide) (a := a) (f := f) (bc := bc) (de := de) (hl := hl) (ix := ix) (sp := sp) (P := P) (G := G) h0
  try simp (config := {decide := false}) only [wd, jr, Nat.reduceAdd, Nat.reduceMul, Nat.reduceMod, Nat.reduceDiv, Nat.reduceLT, Nat.reduceSub, ↓reduceIte, forall_const, true_implies] at e
  exact e h0
theorem k_370 {a bc de hl ix sp : Nat} {f : Int32} {m : Nat → Nat} {P : PT} {G : GE} (hm : KM m) (h0 : hl < 65536) (h1 : de < 65536) : RL G a f bc de hl ix sp 370 m P = RL G a (fWs f hl de) bc de ((hl + 131072 - de - cyn f) % 65536) ix sp 372 m P := by
  have e := fun (h0 : hl < 65536) (h1 : de < 65536) => rl_ED52 (pc := 370) (kb_370 hm) (kb_371 hm) (by decide) (a := a) (f := f) (bc := bc) (de := de) (hl := hl) (ix := ix) (sp := sp) (P := P) (G := G) h0 h1
  try simp (config := {decide := false}) only [wd, jr, Nat.reduceAdd, Nat.reduceMul, Nat.reduceMod, Nat.reduceDiv, Nat.reduceLT, Nat.reduceSub, ↓reduceIte, forall_const, true_implies] at e
  exact e h0 h1
theorem k_372 {a bc de hl ix sp : Nat} {f : Int32} {m : Nat → Nat} {P : PT} {G : GE} (hm : KM m) (h0 : 2 ≤ sp) (h1 : sp < 65536) (h2 : hl < 65536) : RL G a f bc de hl ix sp 372 m P = RL G a f bc de hl ix (sp - 2) 373 (up (up m (sp - 1) (hl / 256)) (sp - 2) hl) P := by
  have e := fun (h0 : 2 ≤ sp) (h1 : sp < 65536) (h2 : hl < 65536) => rl_E5 (pc := 372) (kb_372 hm) (by decide) (a := a) (f := f) (bc := bc) (de := de) (hl := hl) (ix := ix) (sp := sp) (P := P) (G := G) h0 h1 h2
  try simp (config := {decide := false}) only [wd, jr, Nat.reduceAdd, Nat.reduceMul, Nat.reduceMod, Nat.reduceDiv, Nat.reduceLT, Nat.reduceSub, ↓reduceIte, forall_const, true_implies] at e
  exact e h0 h1 h2
theorem k_373 {a bc de hl ix sp : Nat} {f : Int32} {m : Nat → Nat} {P : PT} {G : GE} (hm : KM m) (h0 : bc < 65536) (h1 : de < 65536) : RL G a f bc de hl ix sp 373 m P = RL G a f bc ((bc / 256) * 256 + de % 256) hl ix sp 374 m P := by
  have e := fun (h0 : bc < 65536) (h1 : de < 65536) => rl_50 (pc := 373) (kb_373 hm) (by decide) (a := a) (f := f) (bc := bc) (de := de) (hl := hl) (ix := ix) (sp := sp) (P := P) (G := G) h0 h1
  try simp (config := {decide := false}) only [wd, jr, Nat.reduceAdd, Nat.reduceMul, Nat.reduceMod, Nat.reduceDiv, Nat.reduceLT, Nat.reduceSub, ↓reduceIte, forall_const, true_implies] at e
  exact e h0 h1
theorem k_374 {a bc de hl ix sp : Nat} {f : Int32} {m : Nat → Nat} {P : PT} {G : GE} (hm : KM m) (h0 : bc < 65536) (h1 : de < 65536) : RL G a f bc de hl ix sp 374 m P = RL G a f bc (de / 256 * 256 + (bc % 256)) hl ix sp 375 m P := by
  have e := fun (h0 : bc < 65536) (h1 : de < 65536) => rl_59 (pc := 374) (kb_374 hm) (by decide) (a := a) (f := f) (bc := bc) (de := de) (hl := hl) (ix := ix) (sp := sp) (P := P) (G := G) h0 h1
  try simp (config := {decide := false}) only [wd, jr, Nat.reduceAdd, Nat.reduceMul, Nat.reduceMod, Nat.reduceDiv, Nat.reduceLT, Nat.reduceSub, ↓reduceIte, forall_const, true_implies] at e
  exact e h0 h1
theorem k_375 {a bc de hl ix sp : Nat} {f : Int32} {m : Nat → Nat} {P : PT} {G : GE} (hm : KM m) (h0 : hl < 65536) (h1 : de < 65536) : RL G a f bc de hl ix sp 375 m P = RL G a f bc hl de ix sp 376 m P := by
  have e := fun (h0 : hl < 65536) (h1 : de < 65536) => rl_EB (pc := 375) (kb_375 hm) (by decide) (a := a) (f := f) (bc := bc) (de := de) (hl := hl) (ix := ix) (sp := sp) (P := P) (G := G) h0 h1
  try simp (config := {decide := false}) only [wd, jr, Nat.reduceAdd, Nat.reduceMul, Nat.reduceMod, Nat.reduceDiv, Nat.reduceLT, Nat.reduceSub, ↓reduceIte, forall_const, true_implies] at e
  exact e h0 h1
theorem k_376 {a bc de hl ix sp : Nat} {f : Int32} {m : Nat → Nat} {P : PT} {G : GE} (hm : KM m) (h0 : a < 256) : RL G a f bc de hl ix sp 376 m P = RL G (a ||| a) (fLo (a ||| a) false) bc de hl ix sp 377 m P := by
  have e := fun (h0 : a < 256) => rl_B7 (pc := 376) (kb_376 hm) (by decide) (a := a) (f := f) (bc := bc) (de := de) (hl := hl) (ix := ix) (sp := sp) (P := P) (G := G) h0
  try simp (config := {decide := false}) only [wd, jr, Nat.reduceAdd, Nat.reduceMul, Nat.reduceMod, Nat.reduceDiv, Nat.reduceLT, Nat.reduceSub, ↓reduceIte, forall_const, true_implies] at e
  exact e h0
theorem k_377 {a bc de hl ix sp : Nat} {f : Int32} {m : Nat → Nat} {P : PT} {G : GE} (hm : KM m) (h0 : hl < 65536) (h1 : de < 65536) : RL G a f bc de hl ix sp 377 m P = RL G a (fWs f hl de) bc de ((hl + 131072 - de - cyn f) % 65536) ix sp 379 m P := by
  have e := fun (h0 : hl < 65536) (h1 : de < 65536) => rl_ED52 (pc := 377) (kb_377 hm) (kb_378 hm) (by decide) (a := a) (f := f) (bc := bc) (de := de) (hl := hl) (ix := ix) (sp := sp) (P := P) (G := G) h0 h1
  try simp (config := {decide := false}) only [wd, jr, Nat.reduceAdd, Nat.reduceMul, Nat.reduceMod, Nat.reduceDiv, Nat.reduceLT, Nat.reduceSub, ↓reduceIte, forall_const, true_implies] at e
  exact e h0 h1
theorem k_379 {a bc de hl ix sp : Nat} {f : Int32} {m : Nat → Nat} {P : PT} {G : GE} (hm : KM m) (h0 : sp + 2 < 65536) : RL G a f bc de hl ix sp 379 m P = RL G a f bc de (wd m sp) ix (sp + 2) 380 m P := by
  have e := fun (h0 : sp + 2 < 65536) => rl_E1 (pc := 379) (kb_379 hm) (by decide) (a := a) (f := f) (bc := bc) (de := de) (hl := hl) (ix := ix) (sp := sp) (P := P) (G := G) h0
  try simp (config := {decide := false}) only [wd, jr, Nat.reduceAdd, Nat.reduceMul, Nat.reduceMod, Nat.reduceDiv, Nat.reduceLT, Nat.reduceSub, ↓reduceIte, forall_const, true_implies] at e
  exact e h0
theorem k_380 {a bc de hl ix sp : Nat} {f : Int32} {m : Nat → Nat} {P : PT} {G : GE} (hm : KM m)  : RL G a f bc de hl ix sp 380 m P = if cC f then RL G a f bc de hl ix sp 70 m P else RL G a f bc de hl ix sp 383 m P := by
  have e := fun (_ : True) => rl_DA (pc := 380) (kb_380 hm) (by decide) (a := a) (f := f) (bc := bc) (de := de) (hl := hl) (ix := ix) (sp := sp) (P := P) (G := G) 
  try simp (config := {decide := false}) only [wd, jr, Nat.reduceAdd, Nat.reduceMul, Nat.reduceMod, Nat.reduceDiv, Nat.reduceLT, Nat.reduceSub, ↓reduceIte, forall_const, true_implies, kb_381 hm, kb_382 hm] at e
  exact e 
theorem k_383 {a bc de hl ix sp : Nat} {f : Int32} {m : Nat → Nat} {P : PT} {G : GE} (hm : KM m) (h0 : sp + 2 < 65536) : RL G a f bc de hl ix sp 383 m P = RL G a f bc de hl ix (sp + 2) (wd m sp) m P := by
  have e := fun (h0 : sp + 2 < 65536) => rl_C9 (pc := 383) (kb_383 hm) (by decide) (a := a) (f := f) (bc := bc) (de := de) (hl := hl) (ix := ix) (sp := sp) (P := P) (G := G) h0
  try simp (config := {decide := false}) only [wd, jr, Nat.reduceAdd, Nat.reduceMul, Nat.reduceMod, Nat.reduceDiv, Nat.reduceLT, Nat.reduceSub, ↓reduceIte, forall_const, true_implies] at e
  exact e h0
theorem k_439 {a bc de hl ix sp : Nat} {f : Int32} {m : Nat → Nat} {P : PT} {G : GE} (hm : KM m) (h0 : hl < 65536) : RL G a f bc de hl ix sp 439 m P = RL G (hl / 256) f bc de hl ix sp 440 m P := by
  have e := fun (h0 : hl < 65536) => rl_7C (pc := 439) (kb_439 hm) (by decide) (a := a) (f := f) (bc := bc) (de := de) (hl := hl) (ix := ix) (sp := sp) (P := P) (G := G) h0
  try simp (config := {decide := false}) only [wd, jr, Nat.reduceAdd, Nat.reduceMul, Nat.reduceMod, Nat.reduceDiv, Nat.reduceLT, Nat.reduceSub, ↓reduceIte, forall_const, true_implies] at e
  exact e h0
theorem k_440 {a bc de hl ix sp : Nat} {f : Int32} {m : Nat → Nat} {P : PT} {G : GE} (hm : KM m) (h0 : a < 256) : RL G a f bc de hl ix sp 440 m P = RL G (a ^^^ 128) (fLo (a ^^^ 128) false) bc de hl ix sp 442 m P := by
  have e := fun (h0 : a < 256) => rl_EE (pc := 440) (kb_440 hm) (by decide) (a := a) (f := f) (bc := bc) (de := de) (hl := hl) (ix := ix) (sp := sp) (P := P) (G := G) h0
  try simp (config := {decide := false}) only [wd, jr, Nat.reduceAdd, Nat.reduceMul, Nat.reduceMod, Nat.reduceDiv, Nat.reduceLT, Nat.reduceSub, ↓reduceIte, forall_const, true_implies, kb_441 hm] at e
  exact e h0
theorem k_442 {a bc de hl ix sp : Nat} {f : Int32} {m : Nat → Nat} {P : PT} {G : GE} (hm : KM m) (h0 : a < 256) (h1 : hl < 65536) : RL G a f bc de hl ix sp 442 m P = RL G a f bc de (a * 256 + hl % 256) ix sp 443 m P := by
  have e := fun (h0 : a < 256) (h1 : hl < 65536) => rl_67 (pc := 442) (kb_442 hm) (by decide) (a := a) (f := f) (bc := bc) (de := de) (hl := hl) (ix := ix) (sp := sp) (P := P) (G := G) h0 h1
  try simp (config := {decide := false}) only [wd, jr, Nat.reduceAdd, Nat.reduceMul, Nat.reduceMod, Nat.reduceDiv, Nat.reduceLT, Nat.reduceSub, ↓reduceIte, forall_const, true_implies] at e
  exact e h0 h1
theorem k_443 {a bc de hl ix sp : Nat} {f : Int32} {m : Nat → Nat} {P : PT} {G : GE} (hm : KM m) (h0 : de < 65536) : RL G a f bc de hl ix sp 443 m P = RL G (de / 256) f bc de hl ix sp 444 m P := by
  have e := fun (h0 : de < 65536) => rl_7A (pc := 443) (kb_443 hm) (by decide) (a := a) (f := f) (bc := bc) (de := de) (hl := hl) (ix := ix) (sp := sp) (P := P) (G := G) h0
  try simp (config := {decide := false}) only [wd, jr, Nat.reduceAdd, Nat.reduceMul, Nat.reduceMod, Nat.reduceDiv, Nat.reduceLT, Nat.reduceSub, ↓reduceIte, forall_const, true_implies] at e
  exact e h0
theorem k_444 {a bc de hl ix sp : Nat} {f : Int32} {m : Nat → Nat} {P : PT} {G : GE} (hm : KM m) (h0 : a < 256) : RL G a f bc de hl ix sp 444 m P = RL G (a ^^^ 128) (fLo (a ^^^ 128) false) bc de hl ix sp 446 m P := by
  have e := fun (h0 : a < 256) => rl_EE (pc := 444) (kb_444 hm) (by decide) (a := a) (f := f) (bc := bc) (de := de) (hl := hl) (ix := ix) (sp := sp) (P := P) (G := G) h0
  try simp (config := {decide := false}) only [wd, jr, Nat.reduceAdd, Nat.reduceMul, Nat.reduceMod, Nat.reduceDiv, Nat.reduceLT, Nat.reduceSub, ↓reduceIte, forall_const, true_implies, kb_445 hm] at e
  exact e h0
theorem k_446 {a bc de hl ix sp : Nat} {f : Int32} {m : Nat → Nat} {P : PT} {G : GE} (hm : KM m) (h0 : a < 256) (h1 : de < 65536) : RL G a f bc de hl ix sp 446 m P = RL G a f bc (a * 256 + de % 256) hl ix sp 447 m P := by
  have e := fun (h0 : a < 256) (h1 : de < 65536) => rl_57 (pc := 446) (kb_446 hm) (by decide) (a := a) (f := f) (bc := bc) (de := de) (hl := hl) (ix := ix) (sp := sp) (P := P) (G := G) h0 h1
  try simp (config := {decide := false}) only [wd, jr, Nat.reduceAdd, Nat.reduceMul, Nat.reduceMod, Nat.reduceDiv, Nat.reduceLT, Nat.reduceSub, ↓reduceIte, forall_const, true_implies] at e
  exact e h0 h1
theorem k_447 {a bc de hl ix sp : Nat} {f : Int32} {m : Nat → Nat} {P : PT} {G : GE} (hm : KM m) (h0 : a < 256) : RL G a f bc de hl ix sp 447 m P = RL G (a ||| a) (fLo (a ||| a) false) bc de hl ix sp 448 m P := by
  have e := fun (h0 : a < 256) => rl_B7 (pc := 447) (kb_447 hm) (by decide) (a := a) (f := f) (bc := bc) (de := de) (hl := hl) (ix := ix) (sp := sp) (P := P) (G := G) h0
  try simp (config := {decide := false}) only [wd, jr, Nat.reduceAdd, Nat.reduceMul, Nat.reduceMod, Nat.reduceDiv, Nat.reduceLT, Nat.reduceSub, ↓reduceIte, forall_const, true_implies] at e
  exact e h0
theorem k_448 {a bc de hl ix sp : Nat} {f : Int32} {m : Nat → Nat} {P : PT} {G : GE} (hm : KM m) (h0 : hl < 65536) (h1 : de < 65536) : RL G a f bc de hl ix sp 448 m P = RL G a (fWs f hl de) bc de ((hl + 131072 - de - cyn f) % 65536) ix sp 450 m P := by
  have e := fun (h0 : hl < 65536) (h1 : de < 65536) => rl_ED52 (pc := 448) (kb_448 hm) (kb_449 hm) (by decide) (a := a) (f := f) (bc := bc) (de := de) (hl := hl) (ix := ix) (sp := sp) (P := P) (G := G) h0 h1
  try simp (config := {decide := false}) only [wd, jr, Nat.reduceAdd, Nat.reduceMul, Nat.reduceMod, Nat.reduceDiv, Nat.reduceLT, Nat.reduceSub, ↓reduceIte, forall_const, true_implies] at e
  exact e h0 h1
theorem k_450 {a bc de hl ix sp : Nat} {f : Int32} {m : Nat → Nat} {P : PT} {G : GE} (hm : KM m) (h0 : sp + 2 < 65536) : RL G a f bc de hl ix sp 450 m P = RL G a f bc de hl ix (sp + 2) (wd m sp) m P := by
  have e := fun (h0 : sp + 2 < 65536) => rl_C9 (pc := 450) (kb_450 hm) (by decide) (a := a) (f := f) (bc := bc) (de := de) (hl := hl) (ix := ix) (sp := sp) (P := P) (G := G) h0
  try simp (config := {decide := false}) only [wd, jr, Nat.reduceAdd, Nat.reduceMul, Nat.reduceMod, Nat.reduceDiv, Nat.reduceLT, Nat.reduceSub, ↓reduceIte, forall_const, true_implies] at e
  exact e h0
theorem k_451 {a bc de hl ix sp : Nat} {f : Int32} {m : Nat → Nat} {P : PT} {G : GE} (hm : KM m) (h0 : hl < 65536) (h1 : bc < 65536) : RL G a f bc de hl ix sp 451 m P = RL G a f ((hl / 256) * 256 + bc % 256) de hl ix sp 452 m P := by
  have e := fun (h0 : hl < 65536) (h1 : bc < 65536) => rl_44 (pc := 451) (kb_451 hm) (by decide) (a := a) (f := f) (bc := bc) (de := de) (hl := hl) (ix := ix) (sp := sp) (P := P) (G := G) h0 h1
  try simp (config := {decide := false}) only [wd, jr, Nat.reduceAdd, Nat.reduceMul, Nat.reduceMod, Nat.reduceDiv, Nat.reduceLT, Nat.reduceSub, ↓reduceIte, forall_const, true_implies] at e
  exact e h0 h1
theorem k_452 {a bc de hl ix sp : Nat} {f : Int32} {m : Nat → Nat} {P : PT} {G : GE} (hm : KM m) (h0 : hl < 65536) (h1 : bc < 65536) : RL G a f bc de hl ix sp 452 m P = RL G a f (bc / 256 * 256 + (hl % 256)) de hl ix sp 453 m P := by
  have e := fun (h0 : hl < 65536) (h1 : bc < 65536) => rl_4D (pc := 452) (kb_452 hm) (by decide) (a := a) (f := f) (bc := bc) (de := de) (hl := hl) (ix := ix) (sp := sp) (P := P) (G := G) h0 h1
  try simp (config := {decide := false}) only [wd, jr, Nat.reduceAdd, Nat.reduceMul, Nat.reduceMod, Nat.reduceDiv, Nat.reduceLT, Nat.reduceSub, ↓reduceIte, forall_const, true_implies] at e
  exact e h0 h1
theorem k_453 {a bc de hl ix sp : Nat} {f : Int32} {m : Nat → Nat} {P : PT} {G : GE} (hm : KM m)  : RL G a f bc de hl ix sp 453 m P = RL G a f bc de 0 ix sp 456 m P := by
  have e := fun (_ : True) => rl_21 (pc := 453) (kb_453 hm) (by decide) (a := a) (f := f) (bc := bc) (de := de) (hl := hl) (ix := ix) (sp := sp) (P := P) (G := G) 
  try simp (config := {decide := false}) only [wd, jr, Nat.reduceAdd, Nat.reduceMul, Nat.reduceMod, Nat.reduceDiv, Nat.reduceLT, Nat.reduceSub, ↓reduceIte, forall_const, true_implies, kb_454 hm, kb_455 hm] at e
  exact e 
theorem k_456 {a bc de hl ix sp : Nat} {f : Int32} {m : Nat → Nat} {P : PT} {G : GE} (hm : KM m)  : RL G a f bc de hl ix sp 456 m P = RL G 16 f bc de hl ix sp 458 m P := by
  have e := fun (_ : True) => rl_3E (pc := 456) (kb_456 hm) (by decide) (a := a) (f := f) (bc := bc) (de := de) (hl := hl) (ix := ix) (sp := sp) (P := P) (G := G) 
  try simp (config := {decide := false}) only [wd, jr, Nat.reduceAdd, Nat.reduceMul, Nat.reduceMod, Nat.reduceDiv, Nat.reduceLT, Nat.reduceSub, ↓reduceIte, forall_const, true_implies, kb_457 hm] at e
  exact e 
theorem k_458 {a bc de hl ix sp : Nat} {f : Int32} {m : Nat → Nat} {P : PT} {G : GE} (hm : KM m) (h0 : hl < 65536) (h1 : hl < 65536) : RL G a f bc de hl ix sp 458 m P = RL G a (fAdd f hl hl) bc de ((hl + hl) % 65536) ix sp 459 m P := by
  have e := fun (h0 : hl < 65536) (h1 : hl < 65536) => rl_29 (pc := 458) (kb_458 hm) (by decide) (a := a) (f := f) (bc := bc) (de := de) (hl := hl) (ix := ix) (sp := sp) (P := P) (G := G) h0 h1
  try simp (config := {decide := false}) only [wd, jr, Nat.reduceAdd, Nat.reduceMul, Nat.reduceMod, Nat.reduceDiv, Nat.reduceLT, Nat.reduceSub, ↓reduceIte, forall_const, true_implies] at e
  exact e h0 h1
theorem k_459 {a bc de hl ix sp : Nat} {f : Int32} {m : Nat → Nat} {P : PT} {G : GE} (hm : KM m)  : RL G a f bc de hl ix sp 459 m P = if cC f then RL G a f bc de hl ix sp 64 m P else RL G a f bc de hl ix sp 462 m P := by
  have e := fun (_ : True) => rl_DA (pc := 459) (kb_459 hm) (by decide) (a := a) (f := f) (bc := bc) (de := de) (hl := hl) (ix := ix) (sp := sp) (P := P) (G := G) 
  try simp (config := {decide := false}) only [wd, jr, Nat.reduceAdd, Nat.reduceMul, Nat.reduceMod, Nat.reduceDiv, Nat.reduceLT, Nat.reduceSub, ↓reduceIte, forall_const, true_implies, kb_460 hm, kb_461 hm] at e
  exact e 
theorem k_462 {a bc de hl ix sp : Nat} {f : Int32} {m : Nat → Nat} {P : PT} {G : GE} (hm : KM m) (h0 : de < 65536) : RL G a f bc de hl ix sp 462 m P = RL G a (fRot (de % 256 * 2 % 256) (decide (128 ≤ de % 256))) bc (de / 256 * 256 + (de % 256 * 2 % 256)) hl ix sp 464 m P := by
  have e := fun (h0 : de < 65536) => rl_CB23 (pc := 462) (kb_462 hm) (kb_463 hm) (by decide) (a := a) (f := f) (bc := bc) (de := de) (hl := hl) (ix := ix) (sp := sp) (P := P) (G := G) h0
  try simp (config := {decide := false}) only [wd, jr, Nat.reduceAdd, Nat.reduceMul, Nat.reduceMod, Nat.reduceDiv, Nat.reduceLT, Nat.reduceSub, ↓reduceIte, forall_const, true_implies] at e
  exact e h0
theorem k_464 {a bc de hl ix sp : Nat} {f : Int32} {m : Nat → Nat} {P : PT} {G : GE} (hm : KM m) (h0 : de < 65536) : RL G a f bc de hl ix sp 464 m P = RL G a (fRot ((de / 256 * 2 + cyn f) % 256) (decide (128 ≤ de / 256))) bc (((de / 256 * 2 + cyn f) % 256) * 256 + de % 256) hl ix sp 466 m P := by
  have e := fun (h0 : de < 65536) => rl_CB12 (pc := 464) (kb_464 hm) (kb_465 hm) (by decide) (a := a) (f := f) (bc := bc) (de := de) (hl := hl) (ix := ix) (sp := sp) (P := P) (G := G) h0
  try simp (config := {decide := false}) only [wd, jr, Nat.reduceAdd, Nat.reduceMul, Nat.reduceMod, Nat.reduceDiv, Nat.reduceLT, Nat.reduceSub, ↓reduceIte, forall_const, true_implies] at e
  exact e h0
theorem k_466 {a bc de hl ix sp : Nat} {f : Int32} {m : Nat → Nat} {P : PT} {G : GE} (hm : KM m)  : RL G a f bc de hl ix sp 466 m P = if ¬ cC f then RL G a f bc de hl ix sp 472 m P else RL G a f bc de hl ix sp 468 m P := by
  have e := fun (_ : True) => rl_30 (pc := 466) (kb_466 hm) (by decide) (a := a) (f := f) (bc := bc) (de := de) (hl := hl) (ix := ix) (sp := sp) (P := P) (G := G) 
  try simp (config := {decide := false}) only [wd, jr, Nat.reduceAdd, Nat.reduceMul, Nat.reduceMod, Nat.reduceDiv, Nat.reduceLT, Nat.reduceSub, ↓reduceIte, forall_const, true_implies, kb_467 hm] at e
  exact e 
theorem k_468 {a bc de hl ix sp : Nat} {f : Int32} {m : Nat → Nat} {P : PT} {G : GE} (hm : KM m) (h0 : hl < 65536) (h1 : bc < 65536) : RL G a f bc de hl ix sp 468 m P = RL G a (fAdd f hl bc) bc de ((hl + bc) % 65536) ix sp 469 m P := by
  have e := fun (h0 : hl < 65536) (h1 : bc < 65536) => rl_09 (pc := 468) (kb_468 hm) (by decide) (a := a) (f := f) (bc := bc) (de := de) (hl := hl) (ix := ix) (sp := sp) (P := P) (G := G) h0 h1
  try simp (config := {decide := false}) only [wd, jr, Nat.reduceAdd, Nat.reduceMul, Nat.reduceMod, Nat.reduceDiv, Nat.reduceLT, Nat.reduceSub, ↓reduceIte, forall_const, true_implies] at e
  exact e h0 h1
theorem k_469 {a bc de hl ix sp : Nat} {f : Int32} {m : Nat → Nat} {P : PT} {G : GE} (hm : KM m)  : RL G a f bc de hl ix sp 469 m P = if cC f then RL G a f bc de hl ix sp 64 m P else RL G a f bc de hl ix sp 472 m P := by
  have e := fun (_ : True) => rl_DA (pc := 469) (kb_469 hm) (by decide) (a := a) (f := f) (bc := bc) (de := de) (hl := hl) (ix := ix) (sp := sp) (P := P) (G := G) 
  try simp (config := {decide := false}) only [wd, jr, Nat.reduceAdd, Nat.reduceMul, Nat.reduceMod, Nat.reduceDiv, Nat.reduceLT, Nat.reduceSub, ↓reduceIte, forall_const, true_implies, kb_470 hm, kb_471 hm] at e
  exact e 
theorem k_472 {a bc de hl ix sp : Nat} {f : Int32} {m : Nat → Nat} {P : PT} {G : GE} (hm : KM m) (h0 : a < 256) : RL G a f bc de hl ix sp 472 m P = RL G ((a + 255) % 256) (fDec f a) bc de hl ix sp 473 m P := by
  have e := fun (h0 : a < 256) => rl_3D (pc := 472) (kb_472 hm) (by decide) (a := a) (f := f) (bc := bc) (de := de) (hl := hl) (ix := ix) (sp := sp) (P := P) (G := G) h0
  try simp (config := {decide := false}) only [wd, jr, Nat.reduceAdd, Nat.reduceMul, Nat.reduceMod, Nat.reduceDiv, Nat.reduceLT, Nat.reduceSub, ↓reduceIte, forall_const, true_implies] at e
  exact e h0
theorem k_473 {a bc de hl ix sp : Nat} {f : Int32} {m : Nat → Nat} {P : PT} {G : GE} (hm : KM m)  : RL G a f bc de hl ix sp 473 m P = if ¬ cZ f then RL G a f bc de hl ix sp 458 m P else RL G a f bc de hl ix sp 475 m P := by
  have e := fun (_ : True) => rl_20 (pc := 473) (kb_473 hm) (by decide) (a := a) (f := f) (bc := bc) (de := de) (hl := hl) (ix := ix) (sp := sp) (P := P) (G := G) 
  try simp (config := {decide := false}) only [wd, jr, Nat.reduceAdd, Nat.reduceMul, Nat.reduceMod, Nat.reduceDiv, Nat.reduceLT, Nat.reduceSub, ↓reduceIte, forall_const, true_implies, kb_474 hm] at e
  exact e 
theorem k_475 {a bc de hl ix sp : Nat} {f : Int32} {m : Nat → Nat} {P : PT} {G : GE} (hm : KM m) (h0 : sp + 2 < 65536) : RL G a f bc de hl ix sp 475 m P = RL G a f bc de hl ix (sp + 2) (wd m sp) m P := by
  have e := fun (h0 : sp + 2 < 65536) => rl_C9 (pc := 475) (kb_475 hm) (by decide) (a := a) (f := f) (bc := bc) (de := de) (hl := hl) (ix := ix) (sp := sp) (P := P) (G := G) h0
  try simp (config := {decide := false}) only [wd, jr, Nat.reduceAdd, Nat.reduceMul, Nat.reduceMod, Nat.reduceDiv, Nat.reduceLT, Nat.reduceSub, ↓reduceIte, forall_const, true_implies] at e
  exact e h0
theorem k_476 {a bc de hl ix sp : Nat} {f : Int32} {m : Nat → Nat} {P : PT} {G : GE} (hm : KM m) (h0 : hl < 65536) : RL G a f bc de hl ix sp 476 m P = RL G (hl / 256) f bc de hl ix sp 477 m P := by
  have e := fun (h0 : hl < 65536) => rl_7C (pc := 476) (kb_476 hm) (by decide) (a := a) (f := f) (bc := bc) (de := de) (hl := hl) (ix := ix) (sp := sp) (P := P) (G := G) h0
  try simp (config := {decide := false}) only [wd, jr, Nat.reduceAdd, Nat.reduceMul, Nat.reduceMod, Nat.reduceDiv, Nat.reduceLT, Nat.reduceSub, ↓reduceIte, forall_const, true_implies] at e
  exact e h0
theorem k_477 {a bc de hl ix sp : Nat} {f : Int32} {m : Nat → Nat} {P : PT} {G : GE} (hm : KM m) (h0 : a < 256) (h1 : de < 65536) : RL G a f bc de hl ix sp 477 m P = RL G (a ^^^ (de / 256)) (fLo (a ^^^ (de / 256)) false) bc de hl ix sp 478 m P := by
  have e := fun (h0 : a < 256) (h1 : de < 65536) => rl_AA (pc := 477) (kb_477 hm) (by decide) (a := a) (f := f) (bc := bc) (de := de) (hl := hl) (ix := ix) (sp := sp) (P := P) (G := G) h0 h1
  try simp (config := {decide := false}) only [wd, jr, Nat.reduceAdd, Nat.reduceMul, Nat.reduceMod, Nat.reduceDiv, Nat.reduceLT, Nat.reduceSub, ↓reduceIte, forall_const, true_implies] at e
  exact e h0 h1
theorem k_478 {a bc de hl ix sp : Nat} {f : Int32} {m : Nat → Nat} {P : PT} {G : GE} (hm : KM m) (h0 : 2 ≤ sp) (h1 : sp < 65536) (h2 : a < 256) (h3 : f &&& 255 = f) : RL G a f bc de hl ix sp 478 m P = RL G a f bc de hl ix (sp - 2) 479 (up (up m (sp - 1) ((a * 256 + fB f) / 256)) (sp - 2) (a * 256 + fB f)) P := by
  have e := fun (h0 : 2 ≤ sp) (h1 : sp < 65536) (h2 : a < 256) (h3 : f &&& 255 = f) => rl_F5 (pc := 478) (kb_478 hm) (by decide) (a := a) (f := f) (bc := bc) (de := de) (hl := hl) (ix := ix) (sp := sp) (P := P) (G := G) h0 h1 h2 h3
  try simp (config := {decide := false}) only [wd, jr, Nat.reduceAdd, Nat.reduceMul, Nat.reduceMod, Nat.reduceDiv, Nat.reduceLT, Nat.reduceSub, ↓reduceIte, forall_const, true_implies] at e
  exact e h0 h1 h2 h3
theorem k_479 {a bc de hl ix sp : Nat} {f : Int32} {m : Nat → Nat} {P : PT} {G : GE} (hm : KM m) (h0 : 2 ≤ sp) (h1 : sp < 65536) : RL G a f bc de hl ix sp 479 m P = RL G a f bc de hl ix (sp - 2) 1591 (up (up m (sp - 1) 1) (sp - 2) 482) P := by
  have e := fun (h0 : 2 ≤ sp) (h1 : sp < 65536) => rl_CD (pc := 479) (kb_479 hm) (by decide) (a := a) (f := f) (bc := bc) (de := de) (hl := hl) (ix := ix) (sp := sp) (P := P) (G := G) h0 h1
  try simp (config := {decide := false}) only [wd, jr, Nat.reduceAdd, Nat.reduceMul, Nat.reduceMod, Nat.reduceDiv, Nat.reduceLT, Nat.reduceSub, ↓reduceIte, forall_const, true_implies, kb_480 hm, kb_481 hm] at e
  exact e h0 h1
theorem k_482 {a bc de hl ix sp : Nat} {f : Int32} {m : Nat → Nat} {P : PT} {G : GE} (hm : KM m) (h0 : hl < 65536) (h1 : de < 65536) : RL G a f bc de hl ix sp 482 m P = RL G a f bc hl de ix sp 483 m P := by
  have e := fun (h0 : hl < 65536) (h1 : de < 65536) => rl_EB (pc := 482) (kb_482 hm) (by decide) (a := a) (f := f) (bc := bc) (de := de) (hl := hl) (ix := ix) (sp := sp) (P := P) (G := G) h0 h1
  try simp (config := {decide := false}) only [wd, jr, Nat.reduceAdd, Nat.reduceMul, Nat.reduceMod, Nat.reduceDiv, Nat.reduceLT, Nat.reduceSub, ↓reduceIte, forall_const, true_implies] at e
  exact e h0 h1
theorem k_483 {a bc de hl ix sp : Nat} {f : Int32} {m : Nat → Nat} {P : PT} {G : GE} (hm : KM m) (h0 : 2 ≤ sp) (h1 : sp < 65536) : RL G a f bc de hl ix sp 483 m P = RL G a f bc de hl ix (sp - 2) 1591 (up (up m (sp - 1) 1) (sp - 2) 486) P := by
  have e := fun (h0 : 2 ≤ sp) (h1 : sp < 65536) => rl_CD (pc := 483) (kb_483 hm) (by decide) (a := a) (f := f) (bc := bc) (de := de) (hl := hl) (ix := ix) (sp := sp) (P := P) (G := G) h0 h1
  try simp (config := {decide := false}) only [wd, jr, Nat.reduceAdd, Nat.reduceMul, Nat.reduceMod, Nat.reduceDiv, Nat.reduceLT, Nat.reduceSub, ↓reduceIte, forall_const, true_implies, kb_484 hm, kb_485 hm] at e
  exact e h0 h1
theorem k_486 {a bc de hl ix sp : Nat} {f : Int32} {m : Nat → Nat} {P : PT} {G : GE} (hm : KM m) (h0 : 2 ≤ sp) (h1 : sp < 65536) : RL G a f bc de hl ix sp 486 m P = RL G a f bc de hl ix (sp - 2) 106 (up (up m (sp - 1) 1) (sp - 2) 489) P := by
  have e := fun (h0 : 2 ≤ sp) (h1 : sp < 65536) => rl_CD (pc := 486) (kb_486 hm) (by decide) (a := a) (f := f) (bc := bc) (de := de) (hl := hl) (ix := ix) (sp := sp) (P := P) (G := G) h0 h1
  try simp (config := {decide := false}) only [wd, jr, Nat.reduceAdd, Nat.reduceMul, Nat.reduceMod, Nat.reduceDiv, Nat.reduceLT, Nat.reduceSub, ↓reduceIte, forall_const, true_implies, kb_487 hm, kb_488 hm] at e
  exact e h0 h1
theorem k_489 {a bc de hl ix sp : Nat} {f : Int32} {m : Nat → Nat} {P : PT} {G : GE} (hm : KM m) (h0 : sp + 2 < 65536) : RL G a f bc de hl ix sp 489 m P = RL G (rd m (sp + 1)) (Int32.ofNat (rd m sp)) bc de hl ix (sp + 2) 490 m P := by
  have e := fun (h0 : sp + 2 < 65536) => rl_F1 (pc := 489) (kb_489 hm) (by decide) (a := a) (f := f) (bc := bc) (de := de) (hl := hl) (ix := ix) (sp := sp) (P := P) (G := G) h0
  try simp (config := {decide := false}) only [wd, jr, Nat.reduceAdd, Nat.reduceMul, Nat.reduceMod, Nat.reduceDiv, Nat.reduceLT, Nat.reduceSub, ↓reduceIte, forall_const, true_implies] at e
  exact e h0
theorem k_490 {a bc de hl ix sp : Nat} {f : Int32} {m : Nat → Nat} {P : PT} {G : GE} (hm : KM m) (h0 : a < 256) : RL G a f bc de hl ix sp 490 m P = RL G (a ||| a) (fLo (a ||| a) false) bc de hl ix sp 491 m P := by
  have e := fun (h0 : a < 256) => rl_B7 (pc := 490) (kb_490 hm) (by decide) (a := a) (f := f) (bc := bc) (de := de) (hl := hl) (ix := ix) (sp := sp) (P := P) (G := G) h0
  try simp (config := {decide := false}) only [wd, jr, Nat.reduceAdd, Nat.reduceMul, Nat.reduceMod, Nat.reduceDiv, Nat.reduceLT, Nat.reduceSub, ↓reduceIte, forall_const, true_implies] at e
  exact e h0
theorem k_491 {a bc de hl ix sp : Nat} {f : Int32} {m : Nat → Nat} {P : PT} {G : GE} (hm : KM m)  : RL G a f bc de hl ix sp 491 m P = if cS f then RL G a f bc de hl ix sp 500 m P else RL G a f bc de hl ix sp 494 m P := by
  have e := fun (_ : True) => rl_FA (pc := 491) (kb_491 hm) (by decide) (a := a) (f := f) (bc := bc) (de := de) (hl := hl) (ix := ix) (sp := sp) (P := P) (G := G) 
  try simp (config := {decide := false}) only [wd, jr, Nat.reduceAdd, Nat.reduceMul, Nat.reduceMod, Nat.reduceDiv, Nat.reduceLT, Nat.reduceSub, ↓reduceIte, forall_const, true_implies, kb_492 hm, kb_493 hm] at e
  exact e 
theorem k_494 {a bc de hl ix sp : Nat} {f : Int32} {m : Nat → Nat} {P : PT} {G : GE} (hm : KM m) (h0 : hl < 65536) : RL G a f bc de hl ix sp 494 m P = RL G a (fBit f (hl / 256)) bc de hl ix sp 496 m P := by
  have e := fun (h0 : hl < 65536) => rl_CB7C (pc := 494) (kb_494 hm) (kb_495 hm) (by decide) (a := a) (f := f) (bc := bc) (de := de) (hl := hl) (ix := ix) (sp := sp) (P := P) (G := G) h0
  try simp (config := {decide := false}) only [wd, jr, Nat.reduceAdd, Nat.reduceMul, Nat.reduceMod, Nat.reduceDiv, Nat.reduceLT, Nat.reduceSub, ↓reduceIte, forall_const, true_implies] at e
  exact e h0
theorem k_496 {a bc de hl ix sp : Nat} {f : Int32} {m : Nat → Nat} {P : PT} {G : GE} (hm : KM m)  : RL G a f bc de hl ix sp 496 m P = if ¬ cZ f then RL G a f bc de hl ix sp 64 m P else RL G a f bc de hl ix sp 499 m P := by
  have e := fun (_ : True) => rl_C2 (pc := 496) (kb_496 hm) (by decide) (a := a) (f := f) (bc := bc) (de := de) (hl := hl) (ix := ix) (sp := sp) (P := P) (G := G) 
  try simp (config := {decide := false}) only [wd, jr, Nat.reduceAdd, Nat.reduceMul, Nat.reduceMod, Nat.reduceDiv, Nat.reduceLT, Nat.reduceSub, ↓reduceIte, forall_const, true_implies, kb_497 hm, kb_498 hm] at e
  exact e 
theorem k_499 {a bc de hl ix sp : Nat} {f : Int32} {m : Nat → Nat} {P : PT} {G : GE} (hm : KM m) (h0 : sp + 2 < 65536) : RL G a f bc de hl ix sp 499 m P = RL G a f bc de hl ix (sp + 2) (wd m sp) m P := by
  have e := fun (h0 : sp + 2 < 65536) => rl_C9 (pc := 499) (kb_499 hm) (by decide) (a := a) (f := f) (bc := bc) (de := de) (hl := hl) (ix := ix) (sp := sp) (P := P) (G := G) h0
  try simp (config := {decide := false}) only [wd, jr, Nat.reduceAdd, Nat.reduceMul, Nat.reduceMod, Nat.reduceDiv, Nat.reduceLT, Nat.reduceSub, ↓reduceIte, forall_const, true_implies] at e
  exact e h0
theorem k_500 {a bc de hl ix sp : Nat} {f : Int32} {m : Nat → Nat} {P : PT} {G : GE} (hm : KM m) (h0 : hl < 65536) (h1 : de < 65536) : RL G a f bc de hl ix sp 500 m P = RL G a f bc hl de ix sp 501 m P := by
  have e := fun (h0 : hl < 65536) (h1 : de < 65536) => rl_EB (pc := 500) (kb_500 hm) (by decide) (a := a) (f := f) (bc := bc) (de := de) (hl := hl) (ix := ix) (sp := sp) (P := P) (G := G) h0 h1
  try simp (config := {decide := false}) only [wd, jr, Nat.reduceAdd, Nat.reduceMul, Nat.reduceMod, Nat.reduceDiv, Nat.reduceLT, Nat.reduceSub, ↓reduceIte, forall_const, true_implies] at e
  exact e h0 h1
theorem k_501 {a bc de hl ix sp : Nat} {f : Int32} {m : Nat → Nat} {P : PT} {G : GE} (hm : KM m)  : RL G a f bc de hl ix sp 501 m P = RL G a f bc de 0 ix sp 504 m P := by
  have e := fun (_ : True) => rl_21 (pc := 501) (kb_501 hm) (by decide) (a := a) (f := f) (bc := bc) (de := de) (hl := hl) (ix := ix) (sp := sp) (P := P) (G := G) 
  try simp (config := {decide := false}) only [wd, jr, Nat.reduceAdd, Nat.reduceMul, Nat.reduceMod, Nat.reduceDiv, Nat.reduceLT, Nat.reduceSub, ↓reduceIte, forall_const, true_implies, kb_502 hm, kb_503 hm] at e
  exact e 
theorem k_504 {a bc de hl ix sp : Nat} {f : Int32} {m : Nat → Nat} {P : PT} {G : GE} (hm : KM m) (h0 : a < 256) : RL G a f bc de hl ix sp 504 m P = RL G (a ||| a) (fLo (a ||| a) false) bc de hl ix sp 505 m P := by
  have e := fun (h0 : a < 256) => rl_B7 (pc := 504) (kb_504 hm) (by decide) (a := a) (f := f) (bc := bc) (de := de) (hl := hl) (ix := ix) (sp := sp) (P := P) (G := G) h0
  try simp (config := {decide := false}) only [wd, jr, Nat.reduceAdd, Nat.reduceMul, Nat.reduceMod, Nat.reduceDiv, Nat.reduceLT, Nat.reduceSub, ↓reduceIte, forall_const, true_implies] at e
  exact e h0
theorem k_505 {a bc de hl ix sp : Nat} {f : Int32} {m : Nat → Nat} {P : PT} {G : GE} (hm : KM m) (h0 : hl < 65536) (h1 : de < 65536) : RL G a f bc de hl ix sp 505 m P = RL G a (fWs f hl de) bc de ((hl + 131072 - de - cyn f) % 65536) ix sp 507 m P := by
  have e := fun (h0 : hl < 65536) (h1 : de < 65536) => rl_ED52 (pc := 505) (kb_505 hm) (kb_506 hm) (by decide) (a := a) (f := f) (bc := bc) (de := de) (hl := hl) (ix := ix) (sp := sp) (P := P) (G := G) h0 h1
  try simp (config := {decide := false}) only [wd, jr, Nat.reduceAdd, Nat.reduceMul, Nat.reduceMod, Nat.reduceDiv, Nat.reduceLT, Nat.reduceSub, ↓reduceIte, forall_const, true_implies] at e
  exact e h0 h1
theorem k_507 {a bc de hl ix sp : Nat} {f : Int32} {m : Nat → Nat} {P : PT} {G : GE} (hm : KM m) (h0 : hl < 65536) : RL G a f bc de hl ix sp 507 m P = RL G (hl / 256) f bc de hl ix sp 508 m P := by
  have e := fun (h0 : hl < 65536) => rl_7C (pc := 507) (kb_507 hm) (by decide) (a := a) (f := f) (bc := bc) (de := de) (hl := hl) (ix := ix) (sp := sp) (P := P) (G := G) h0
  try simp (config := {decide := false}) only [wd, jr, Nat.reduceAdd, Nat.reduceMul, Nat.reduceMod, Nat.reduceDiv, Nat.reduceLT, Nat.reduceSub, ↓reduceIte, forall_const, true_implies] at e
  exact e h0
theorem k_508 {a bc de hl ix sp : Nat} {f : Int32} {m : Nat → Nat} {P : PT} {G : GE} (hm : KM m) (h0 : a < 256) (h1 : hl < 65536) : RL G a f bc de hl ix sp 508 m P = RL G (a ||| (hl % 256)) (fLo (a ||| (hl % 256)) false) bc de hl ix sp 509 m P := by
  have e := fun (h0 : a < 256) (h1 : hl < 65536) => rl_B5 (pc := 508) (kb_508 hm) (by decide) (a := a) (f := f) (bc := bc) (de := de) (hl := hl) (ix := ix) (sp := sp) (P := P) (G := G) h0 h1
  try simp (config := {decide := false}) only [wd, jr, Nat.reduceAdd, Nat.reduceMul, Nat.reduceMod, Nat.reduceDiv, Nat.reduceLT, Nat.reduceSub, ↓reduceIte, forall_const, true_implies] at e
  exact e h0 h1
theorem k_509 {a bc de hl ix sp : Nat} {f : Int32} {m : Nat → Nat} {P : PT} {G : GE} (hm : KM m) (h0 : sp + 2 < 65536) : RL G a f bc de hl ix sp 509 m P = if cZ f then RL G a f bc de hl ix (sp + 2) (wd m sp) m P else RL G a f bc de hl ix sp 510 m P := by
  have e := fun (h0 : sp + 2 < 65536) => rl_C8 (pc := 509) (kb_509 hm) (by decide) (a := a) (f := f) (bc := bc) (de := de) (hl := hl) (ix := ix) (sp := sp) (P := P) (G := G) h0
  try simp (config := {decide := false}) only [wd, jr, Nat.reduceAdd, Nat.reduceMul, Nat.reduceMod, Nat.reduceDiv, Nat.reduceLT, Nat.reduceSub, ↓reduceIte, forall_const, true_implies] at e
  exact e h0
theorem k_510 {a bc de hl ix sp : Nat} {f : Int32} {m : Nat → Nat} {P : PT} {G : GE} (hm : KM m) (h0 : hl < 65536) : RL G a f bc de hl ix sp 510 m P = RL G a (fBit f (hl / 256)) bc de hl ix sp 512 m P := by
  have e := fun (h0 : hl < 65536) => rl_CB7C (pc := 510) (kb_510 hm) (kb_511 hm) (by decide) (a := a) (f := f) (bc := bc) (de := de) (hl := hl) (ix := ix) (sp := sp) (P := P) (G := G) h0
  try simp (config := {decide := false}) only [wd, jr, Nat.reduceAdd, Nat.reduceMul, Nat.reduceMod, Nat.reduceDiv, Nat.reduceLT, Nat.reduceSub, ↓reduceIte, forall_const, true_implies] at e
  exact e h0
theorem k_512 {a bc de hl ix sp : Nat} {f : Int32} {m : Nat → Nat} {P : PT} {G : GE} (hm : KM m)  : RL G a f bc de hl ix sp 512 m P = if cZ f then RL G a f bc de hl ix sp 64 m P else RL G a f bc de hl ix sp 515 m P := by
  have e := fun (_ : True) => rl_CA (pc := 512) (kb_512 hm) (by decide) (a := a) (f := f) (bc := bc) (de := de) (hl := hl) (ix := ix) (sp := sp) (P := P) (G := G) 
  try simp (config := {decide := false}) only [wd, jr, Nat.reduceAdd, Nat.reduceMul, Nat.reduceMod, Nat.reduceDiv, Nat.reduceLT, Nat.reduceSub, ↓reduceIte, forall_const, true_implies, kb_513 hm, kb_514 hm] at e
  exact e 
theorem k_515 {a bc de hl ix sp : Nat} {f : Int32} {m : Nat → Nat} {P : PT} {G : GE} (hm : KM m) (h0 : sp + 2 < 65536) : RL G a f bc de hl ix sp 515 m P = RL G a f bc de hl ix (sp + 2) (wd m sp) m P := by
  have e := fun (h0 : sp + 2 < 65536) => rl_C9 (pc := 515) (kb_515 hm) (by decide) (a := a) (f := f) (bc := bc) (de := de) (hl := hl) (ix := ix) (sp := sp) (P := P) (G := G) h0
  try simp (config := {decide := false}) only [wd, jr, Nat.reduceAdd, Nat.reduceMul, Nat.reduceMod, Nat.reduceDiv, Nat.reduceLT, Nat.reduceSub, ↓reduceIte, forall_const, true_implies] at e
  exact e h0
theorem k_526 {a bc de hl ix sp : Nat} {f : Int32} {m : Nat → Nat} {P : PT} {G : GE} (hm : KM m) (h0 : de < 65536) : RL G a f bc de hl ix sp 526 m P = RL G (de / 256) f bc de hl ix sp 527 m P := by
  have e := fun (h0 : de < 65536) => rl_7A (pc := 526) (kb_526 hm) (by decide) (a := a) (f := f) (bc := bc) (de := de) (hl := hl) (ix := ix) (sp := sp) (P := P) (G := G) h0
  try simp (config := {decide := false}) only [wd, jr, Nat.reduceAdd, Nat.reduceMul, Nat.reduceMod, Nat.reduceDiv, Nat.reduceLT, Nat.reduceSub, ↓reduceIte, forall_const, true_implies] at e
  exact e h0
theorem k_527 {a bc de hl ix sp : Nat} {f : Int32} {m : Nat → Nat} {P : PT} {G : GE} (hm : KM m) (h0 : a < 256) : RL G a f bc de hl ix sp 527 m P = RL G (a ||| a) (fLo (a ||| a) false) bc de hl ix sp 528 m P := by
  have e := fun (h0 : a < 256) => rl_B7 (pc := 527) (kb_527 hm) (by decide) (a := a) (f := f) (bc := bc) (de := de) (hl := hl) (ix := ix) (sp := sp) (P := P) (G := G) h0
  try simp (config := {decide := false}) only [wd, jr, Nat.reduceAdd, Nat.reduceMul, Nat.reduceMod, Nat.reduceDiv, Nat.reduceLT, Nat.reduceSub, ↓reduceIte, forall_const, true_implies] at e
  exact e h0
theorem k_528 {a bc de hl ix sp : Nat} {f : Int32} {m : Nat → Nat} {P : PT} {G : GE} (hm : KM m)  : RL G a f bc de hl ix sp 528 m P = if cS f then RL G a f bc de hl ix sp 73 m P else RL G a f bc de hl ix sp 531 m P := by
  have e := fun (_ : True) => rl_FA (pc := 528) (kb_528 hm) (by decide) (a := a) (f := f) (bc := bc) (de := de) (hl := hl) (ix := ix) (sp := sp) (P := P) (G := G) 
  try simp (config := {decide := false}) only [wd, jr, Nat.reduceAdd, Nat.reduceMul, Nat.reduceMod, Nat.reduceDiv, Nat.reduceLT, Nat.reduceSub, ↓reduceIte, forall_const, true_implies, kb_529 hm, kb_530 hm] at e
  exact e 
theorem k_531 {a bc de hl ix sp : Nat} {f : Int32} {m : Nat → Nat} {P : PT} {G : GE} (hm : KM m) (h0 : a < 256) (h1 : de < 65536) : RL G a f bc de hl ix sp 531 m P = RL G (a ||| (de % 256)) (fLo (a ||| (de % 256)) false) bc de hl ix sp 532 m P := by
  have e := fun (h0 : a < 256) (h1 : de < 65536) => rl_B3 (pc := 531) (kb_531 hm) (by decide) (a := a) (f := f) (bc := bc) (de := de) (hl := hl) (ix := ix) (sp := sp) (P := P) (G := G) h0 h1
  try simp (config := {decide := false}) only [wd, jr, Nat.reduceAdd, Nat.reduceMul, Nat.reduceMod, Nat.reduceDiv, Nat.reduceLT, Nat.reduceSub, ↓reduceIte, forall_const, true_implies] at e
  exact e h0 h1
theorem k_532 {a bc de hl ix sp : Nat} {f : Int32} {m : Nat → Nat} {P : PT} {G : GE} (hm : KM m)  : RL G a f bc de hl ix sp 532 m P = if cZ f then RL G a f bc de hl ix sp 73 m P else RL G a f bc de hl ix sp 535 m P := by
  have e := fun (_ : True) => rl_CA (pc := 532) (kb_532 hm) (by decide) (a := a) (f := f) (bc := bc) (de := de) (hl := hl) (ix := ix) (sp := sp) (P := P) (G := G) 
  try simp (config := {decide := false}) only [wd, jr, Nat.reduceAdd, Nat.reduceMul, Nat.reduceMod, Nat.reduceDiv, Nat.reduceLT, Nat.reduceSub, ↓reduceIte, forall_const, true_implies, kb_533 hm, kb_534 hm] at e
  exact e 
theorem k_535 {a bc de hl ix sp : Nat} {f : Int32} {m : Nat → Nat} {P : PT} {G : GE} (hm : KM m) (h0 : hl < 65536) : RL G a f bc de hl ix sp 535 m P = RL G a (fBit f (hl / 256)) bc de hl ix sp 537 m P := by
  have e := fun (h0 : hl < 65536) => rl_CB7C (pc := 535) (kb_535 hm) (kb_536 hm) (by decide) (a := a) (f := f) (bc := bc) (de := de) (hl := hl) (ix := ix) (sp := sp) (P := P) (G := G) h0
  try simp (config := {decide := false}) only [wd, jr, Nat.reduceAdd, Nat.reduceMul, Nat.reduceMod, Nat.reduceDiv, Nat.reduceLT, Nat.reduceSub, ↓reduceIte, forall_const, true_implies] at e
  exact e h0
theorem k_537 {a bc de hl ix sp : Nat} {f : Int32} {m : Nat → Nat} {P : PT} {G : GE} (hm : KM m)  : RL G a f bc de hl ix sp 537 m P = if cZ f then RL G a f bc de hl ix sp 552 m P else RL G a f bc de hl ix sp 539 m P := by
  have e := fun (_ : True) => rl_28 (pc := 537) (kb_537 hm) (by decide) (a := a) (f := f) (bc := bc) (de := de) (hl := hl) (ix := ix) (sp := sp) (P := P) (G := G) 
  try simp (config := {decide := false}) only [wd, jr, Nat.reduceAdd, Nat.reduceMul, Nat.reduceMod, Nat.reduceDiv, Nat.reduceLT, Nat.reduceSub, ↓reduceIte, forall_const, true_implies, kb_538 hm] at e
  exact e 
theorem k_539 {a bc de hl ix sp : Nat} {f : Int32} {m : Nat → Nat} {P : PT} {G : GE} (hm : KM m) (h0 : 2 ≤ sp) (h1 : sp < 65536) : RL G a f bc de hl ix sp 539 m P = RL G a f bc de hl ix (sp - 2) 1591 (up (up m (sp - 1) 2) (sp - 2) 542) P := by
  have e := fun (h0 : 2 ≤ sp) (h1 : sp < 65536) => rl_CD (pc := 539) (kb_539 hm) (by decide) (a := a) (f := f) (bc := bc) (de := de) (hl := hl) (ix := ix) (sp := sp) (P := P) (G := G) h0 h1
  try simp (config := {decide := false}) only [wd, jr, Nat.reduceAdd, Nat.reduceMul, Nat.reduceMod, Nat.reduceDiv, Nat.reduceLT, Nat.reduceSub, ↓reduceIte, forall_const, true_implies, kb_540 hm, kb_541 hm] at e
  exact e h0 h1
theorem k_542 {a bc de hl ix sp : Nat} {f : Int32} {m : Nat → Nat} {P : PT} {G : GE} (hm : KM m) (h0 : hl < 65536) (h1 : de < 65536) : RL G a f bc de hl ix sp 542 m P = RL G a (fAdd f hl de) bc de ((hl + de) % 65536) ix sp 543 m P := by
  have e := fun (h0 : hl < 65536) (h1 : de < 65536) => rl_19 (pc := 542) (kb_542 hm) (by decide) (a := a) (f := f) (bc := bc) (de := de) (hl := hl) (ix := ix) (sp := sp) (P := P) (G := G) h0 h1
  try simp (config := {decide := false}) only [wd, jr, Nat.reduceAdd, Nat.reduceMul, Nat.reduceMod, Nat.reduceDiv, Nat.reduceLT, Nat.reduceSub, ↓reduceIte, forall_const, true_implies] at e
  exact e h0 h1
theorem k_543 {a bc de hl ix sp : Nat} {f : Int32} {m : Nat → Nat} {P : PT} {G : GE} (hm : KM m) (h0 : hl < 65536) : RL G a f bc de hl ix sp 543 m P = RL G a f bc de ((hl + 65535) % 65536) ix sp 544 m P := by
  have e := fun (h0 : hl < 65536) => rl_2B (pc := 543) (kb_543 hm) (by decide) (a := a) (f := f) (bc := bc) (de := de) (hl := hl) (ix := ix) (sp := sp) (P := P) (G := G) h0
  try simp (config := {decide := false}) only [wd, jr, Nat.reduceAdd, Nat.reduceMul, Nat.reduceMod, Nat.reduceDiv, Nat.reduceLT, Nat.reduceSub, ↓reduceIte, forall_const, true_implies] at e
  exact e h0
theorem k_544 {a bc de hl ix sp : Nat} {f : Int32} {m : Nat → Nat} {P : PT} {G : GE} (hm : KM m) (h0 : 2 ≤ sp) (h1 : sp < 65536) : RL G a f bc de hl ix sp 544 m P = RL G a f bc de hl ix (sp - 2) 1601 (up (up m (sp - 1) 2) (sp - 2) 547) P := by
  have e := fun (h0 : 2 ≤ sp) (h1 : sp < 65536) => rl_CD (pc := 544) (kb_544 hm) (by decide) (a := a) (f := f) (bc := bc) (de := de) (hl := hl) (ix := ix) (sp := sp) (P := P) (G := G) h0 h1
  try simp (config := {decide := false}) only [wd, jr, Nat.reduceAdd, Nat.reduceMul, Nat.reduceMod, Nat.reduceDiv, Nat.reduceLT, Nat.reduceSub, ↓reduceIte, forall_const, true_implies, kb_545 hm, kb_546 hm] at e
  exact e h0 h1
theorem k_547 {a bc de hl ix sp : Nat} {f : Int32} {m : Nat → Nat} {P : PT} {G : GE} (hm : KM m) (h0 : bc < 65536) (h1 : hl < 65536) : RL G a f bc de hl ix sp 547 m P = RL G a f bc de ((bc / 256) * 256 + hl % 256) ix sp 548 m P := by
  have e := fun (h0 : bc < 65536) (h1 : hl < 65536) => rl_60 (pc := 547) (kb_547 hm) (by decide) (a := a) (f := f) (bc := bc) (de := de) (hl := hl) (ix := ix) (sp := sp) (P := P) (G := G) h0 h1
  try simp (config := {decide := false}) only [wd, jr, Nat.reduceAdd, Nat.reduceMul, Nat.reduceMod, Nat.reduceDiv, Nat.reduceLT, Nat.reduceSub, ↓reduceIte, forall_const, true_implies] at e
  exact e h0 h1
theorem k_548 {a bc de hl ix sp : Nat} {f : Int32} {m : Nat → Nat} {P : PT} {G : GE} (hm : KM m) (h0 : bc < 65536) (h1 : hl < 65536) : RL G a f bc de hl ix sp 548 m P = RL G a f bc de (hl / 256 * 256 + (bc % 256)) ix sp 549 m P := by
  have e := fun (h0 : bc < 65536) (h1 : hl < 65536) => rl_69 (pc := 548) (kb_548 hm) (by decide) (a := a) (f := f) (bc := bc) (de := de) (hl := hl) (ix := ix) (sp := sp) (P := P) (G := G) h0 h1
  try simp (config := {decide := false}) only [wd, jr, Nat.reduceAdd, Nat.reduceMul, Nat.reduceMod, Nat.reduceDiv, Nat.reduceLT, Nat.reduceSub, ↓reduceIte, forall_const, true_implies] at e
  exact e h0 h1
theorem k_549 {a bc de hl ix sp : Nat} {f : Int32} {m : Nat → Nat} {P : PT} {G : GE} (hm : KM m)  : RL G a f bc de hl ix sp 549 m P = RL G a f bc de hl ix sp 1594 m P := by
  have e := fun (_ : True) => rl_C3 (pc := 549) (kb_549 hm) (by decide) (a := a) (f := f) (bc := bc) (de := de) (hl := hl) (ix := ix) (sp := sp) (P := P) (G := G) 
  try simp (config := {decide := false}) only [wd, jr, Nat.reduceAdd, Nat.reduceMul, Nat.reduceMod, Nat.reduceDiv, Nat.reduceLT, Nat.reduceSub, ↓reduceIte, forall_const, true_implies, kb_550 hm, kb_551 hm] at e
  exact e 
theorem k_552 {a bc de hl ix sp : Nat} {f : Int32} {m : Nat → Nat} {P : PT} {G : GE} (hm : KM m) (h0 : 2 ≤ sp) (h1 : sp < 65536) : RL G a f bc de hl ix sp 552 m P = RL G a f bc de hl ix (sp - 2) 1601 (up (up m (sp - 1) 2) (sp - 2) 555) P := by
  have e := fun (h0 : 2 ≤ sp) (h1 : sp < 65536) => rl_CD (pc := 552) (kb_552 hm) (by decide) (a := a) (f := f) (bc := bc) (de := de) (hl := hl) (ix := ix) (sp := sp) (P := P) (G := G) h0 h1
  try simp (config := {decide := false}) only [wd, jr, Nat.reduceAdd, Nat.reduceMul, Nat.reduceMod, Nat.reduceDiv, Nat.reduceLT, Nat.reduceSub, ↓reduceIte, forall_const, true_implies, kb_553 hm, kb_554 hm] at e
  exact e h0 h1
theorem k_555 {a bc de hl ix sp : Nat} {f : Int32} {m : Nat → Nat} {P : PT} {G : GE} (hm : KM m) (h0 : bc < 65536) (h1 : hl < 65536) : RL G a f bc de hl ix sp 555 m P = RL G a f bc de ((bc / 256) * 256 + hl % 256) ix sp 556 m P := by
  have e := fun (h0 : bc < 65536) (h1 : hl < 65536) => rl_60 (pc := 555) (kb_555 hm) (by decide) (a := a) (f := f) (bc := bc) (de := de) (hl := hl) (ix := ix) (sp := sp) (P := P) (G := G) h0 h1
  try simp (config := {decide := false}) only [wd, jr, Nat.reduceAdd, Nat.reduceMul, Nat.reduceMod, Nat.reduceDiv, Nat.reduceLT, Nat.reduceSub, ↓reduceIte, forall_const, true_implies] at e
  exact e h0 h1
theorem k_556 {a bc de hl ix sp : Nat} {f : Int32} {m : Nat → Nat} {P : PT} {G : GE} (hm : KM m) (h0 : bc < 65536) (h1 : hl < 65536) : RL G a f bc de hl ix sp 556 m P = RL G a f bc de (hl / 256 * 256 + (bc % 256)) ix sp 557 m P := by
  have e := fun (h0 : bc < 65536) (h1 : hl < 65536) => rl_69 (pc := 556) (kb_556 hm) (by decide) (a := a) (f := f) (bc := bc) (de := de) (hl := hl) (ix := ix) (sp := sp) (P := P) (G := G) h0 h1
  try simp (config := {decide := false}) only [wd, jr, Nat.reduceAdd, Nat.reduceMul, Nat.reduceMod, Nat.reduceDiv, Nat.reduceLT, Nat.reduceSub, ↓reduceIte, forall_const, true_implies] at e
  exact e h0 h1
theorem k_557 {a bc de hl ix sp : Nat} {f : Int32} {m : Nat → Nat} {P : PT} {G : GE} (hm : KM m) (h0 : sp + 2 < 65536) : RL G a f bc de hl ix sp 557 m P = RL G a f bc de hl ix (sp + 2) (wd m sp) m P := by
  have e := fun (h0 : sp + 2 < 65536) => rl_C9 (pc := 557) (kb_557 hm) (by decide) (a := a) (f := f) (bc := bc) (de := de) (hl := hl) (ix := ix) (sp := sp) (P := P) (G := G) h0
  try simp (config := {decide := false}) only [wd, jr, Nat.reduceAdd, Nat.reduceMul, Nat.reduceMod, Nat.reduceDiv, Nat.reduceLT, Nat.reduceSub, ↓reduceIte, forall_const, true_implies] at e
  exact e h0
theorem k_558 {a bc de hl ix sp : Nat} {f : Int32} {m : Nat → Nat} {P : PT} {G : GE} (hm : KM m) (h0 : de < 65536) : RL G a f bc de hl ix sp 558 m P = RL G (de / 256) f bc de hl ix sp 559 m P := by
  have e := fun (h0 : de < 65536) => rl_7A (pc := 558) (kb_558 hm) (by decide) (a := a) (f := f) (bc := bc) (de := de) (hl := hl) (ix := ix) (sp := sp) (P := P) (G := G) h0
  try simp (config := {decide := false}) only [wd, jr, Nat.reduceAdd, Nat.reduceMul, Nat.reduceMod, Nat.reduceDiv, Nat.reduceLT, Nat.reduceSub, ↓reduceIte, forall_const, true_implies] at e
  exact e h0
theorem k_559 {a bc de hl ix sp : Nat} {f : Int32} {m : Nat → Nat} {P : PT} {G : GE} (hm : KM m) (h0 : a < 256) : RL G a f bc de hl ix sp 559 m P = RL G (a ||| a) (fLo (a ||| a) false) bc de hl ix sp 560 m P := by
  have e := fun (h0 : a < 256) => rl_B7 (pc := 559) (kb_559 hm) (by decide) (a := a) (f := f) (bc := bc) (de := de) (hl := hl) (ix := ix) (sp := sp) (P := P) (G := G) h0
  try simp (config := {decide := false}) only [wd, jr, Nat.reduceAdd, Nat.reduceMul, Nat.reduceMod, Nat.reduceDiv, Nat.reduceLT, Nat.reduceSub, ↓reduceIte, forall_const, true_implies] at e
  exact e h0
theorem k_560 {a bc de hl ix sp : Nat} {f : Int32} {m : Nat → Nat} {P : PT} {G : GE} (hm : KM m)  : RL G a f bc de hl ix sp 560 m P = if cS f then RL G a f bc de hl ix sp 73 m P else RL G a f bc de hl ix sp 563 m P := by
  have e := fun (_ : True) => rl_FA (pc := 560) (kb_560 hm) (by decide) (a := a) (f := f) (bc := bc) (de := de) (hl := hl) (ix := ix) (sp := sp) (P := P) (G := G) 
  try simp (config := {decide := false}) only [wd, jr, Nat.reduceAdd, Nat.reduceMul, Nat.reduceMod, Nat.reduceDiv, Nat.reduceLT, Nat.reduceSub, ↓reduceIte, forall_const, true_implies, kb_561 hm, kb_562 hm] at e
  exact e 
theorem k_563 {a bc de hl ix sp : Nat} {f : Int32} {m : Nat → Nat} {P : PT} {G : GE} (hm : KM m) (h0 : a < 256) (h1 : de < 65536) : RL G a f bc de hl ix sp 563 m P = RL G (a ||| (de % 256)) (fLo (a ||| (de % 256)) false) bc de hl ix sp 564 m P := by
  have e := fun (h0 : a < 256) (h1 : de < 65536) => rl_B3 (pc := 563) (kb_563 hm) (by decide) (a := a) (f := f) (bc := bc) (de := de) (hl := hl) (ix := ix) (sp := sp) (P := P) (G := G) h0 h1
  try simp (config := {decide := false}) only [wd, jr, Nat.reduceAdd, Nat.reduceMul, Nat.reduceMod, Nat.reduceDiv, Nat.reduceLT, Nat.reduceSub, ↓reduceIte, forall_const, true_implies] at e
  exact e h0 h1
theorem k_564 {a bc de hl ix sp : Nat} {f : Int32} {m : Nat → Nat} {P : PT} {G : GE} (hm : KM m)  : RL G a f bc de hl ix sp 564 m P = if cZ f then RL G a f bc de hl ix sp 73 m P else RL G a f bc de hl ix sp 567 m P := by
  have e := fun (_ : True) => rl_CA (pc := 564) (kb_564 hm) (by decide) (a := a) (f := f) (bc := bc) (de := de) (hl := hl) (ix := ix) (sp := sp) (P := P) (G := G) 
  try simp (config := {decide := false}) only [wd, jr, Nat.reduceAdd, Nat.reduceMul, Nat.reduceMod, Nat.reduceDiv, Nat.reduceLT, Nat.reduceSub, ↓reduceIte, forall_const, true_implies, kb_565 hm, kb_566 hm] at e
  exact e 
theorem k_567 {a bc de hl ix sp : Nat} {f : Int32} {m : Nat → Nat} {P : PT} {G : GE} (hm : KM m) (h0 : hl < 65536) : RL G a f bc de hl ix sp 567 m P = RL G a (fBit f (hl / 256)) bc de hl ix sp 569 m P := by
  have e := fun (h0 : hl < 65536) => rl_CB7C (pc := 567) (kb_567 hm) (kb_568 hm) (by decide) (a := a) (f := f) (bc := bc) (de := de) (hl := hl) (ix := ix) (sp := sp) (P := P) (G := G) h0
  try simp (config := {decide := false}) only [wd, jr, Nat.reduceAdd, Nat.reduceMul, Nat.reduceMod, Nat.reduceDiv, Nat.reduceLT, Nat.reduceSub, ↓reduceIte, forall_const, true_implies] at e
  exact e h0
theorem k_569 {a bc de hl ix sp : Nat} {f : Int32} {m : Nat → Nat} {P : PT} {G : GE} (hm : KM m)  : RL G a f bc de hl ix sp 569 m P = if cZ f then RL G a f bc de hl ix sp 587 m P else RL G a f bc de hl ix sp 571 m P := by
  have e := fun (_ : True) => rl_28 (pc := 569) (kb_569 hm) (by decide) (a := a) (f := f) (bc := bc) (de := de) (hl := hl) (ix := ix) (sp := sp) (P := P) (G := G) 
  try simp (config := {decide := false}) only [wd, jr, Nat.reduceAdd, Nat.reduceMul, Nat.reduceMod, Nat.reduceDiv, Nat.reduceLT, Nat.reduceSub, ↓reduceIte, forall_const, true_implies, kb_570 hm] at e
  exact e 
theorem k_571 {a bc de hl ix sp : Nat} {f : Int32} {m : Nat → Nat} {P : PT} {G : GE} (hm : KM m) (h0 : 2 ≤ sp) (h1 : sp < 65536) : RL G a f bc de hl ix sp 571 m P = RL G a f bc de hl ix (sp - 2) 1591 (up (up m (sp - 1) 2) (sp - 2) 574) P := by
  have e := fun (h0 : 2 ≤ sp) (h1 : sp < 65536) => rl_CD (pc := 571) (kb_571 hm) (by decide) (a := a) (f := f) (bc := bc) (de := de) (hl := hl) (ix := ix) (sp := sp) (P := P) (G := G) h0 h1
  try simp (config := {decide := false}) only [wd, jr, Nat.reduceAdd, Nat.reduceMul, Nat.reduceMod, Nat.reduceDiv, Nat.reduceLT, Nat.reduceSub, ↓reduceIte, forall_const, true_implies, kb_572 hm, kb_573 hm] at e
  exact e h0 h1
theorem k_574 {a bc de hl ix sp : Nat} {f : Int32} {m : Nat → Nat} {P : PT} {G : GE} (hm : KM m) (h0 : 2 ≤ sp) (h1 : sp < 65536) (h2 : de < 65536) : RL G a f bc de hl ix sp 574 m P = RL G a f bc de hl ix (sp - 2) 575 (up (up m (sp - 1) (de / 256)) (sp - 2) de) P := by
  have e := fun (h0 : 2 ≤ sp) (h1 : sp < 65536) (h2 : de < 65536) => rl_D5 (pc := 574) (kb_574 hm) (by decide) (a := a) (f := f) (bc := bc) (de := de) (hl := hl) (ix := ix) (sp := sp) (P := P) (G := G) h0 h1 h2
  try simp (config := {decide := false}) only [wd, jr, Nat.reduceAdd, Nat.reduceMul, Nat.reduceMod, Nat.reduceDiv, Nat.reduceLT, Nat.reduceSub, ↓reduceIte, forall_const, true_implies] at e
  exact e h0 h1 h2
theorem k_575 {a bc de hl ix sp : Nat} {f : Int32} {m : Nat → Nat} {P : PT} {G : GE} (hm : KM m) (h0 : 2 ≤ sp) (h1 : sp < 65536) : RL G a f bc de hl ix sp 575 m P = RL G a f bc de hl ix (sp - 2) 1601 (up (up m (sp - 1) 2) (sp - 2) 578) P := by
  have e := fun (h0 : 2 ≤ sp) (h1 : sp < 65536) => rl_CD (pc := 575) (kb_575 hm) (by decide) (a := a) (f := f) (bc := bc) (de := de) (hl := hl) (ix := ix) (sp := sp) (P := P) (G := G) h0 h1
  try simp (config := {decide := false}) only [wd, jr, Nat.reduceAdd, Nat.reduceMul, Nat.reduceMod, Nat.reduceDiv, Nat.reduceLT, Nat.reduceSub, ↓reduceIte, forall_const, true_implies, kb_576 hm, kb_577 hm] at e
  exact e h0 h1
theorem k_578 {a bc de hl ix sp : Nat} {f : Int32} {m : Nat → Nat} {P : PT} {G : GE} (hm : KM m) (h0 : sp + 2 < 65536) : RL G a f bc de hl ix sp 578 m P = RL G a f bc (wd m sp) hl ix (sp + 2) 579 m P := by
  have e := fun (h0 : sp + 2 < 65536) => rl_D1 (pc := 578) (kb_578 hm) (by decide) (a := a) (f := f) (bc := bc) (de := de) (hl := hl) (ix := ix) (sp := sp) (P := P) (G := G) h0
  try simp (config := {decide := false}) only [wd, jr, Nat.reduceAdd, Nat.reduceMul, Nat.reduceMod, Nat.reduceDiv, Nat.reduceLT, Nat.reduceSub, ↓reduceIte, forall_const, true_implies] at e
  exact e h0
theorem k_579 {a bc de hl ix sp : Nat} {f : Int32} {m : Nat → Nat} {P : PT} {G : GE} (hm : KM m) (h0 : hl < 65536) : RL G a f bc de hl ix sp 579 m P = RL G (hl / 256) f bc de hl ix sp 580 m P := by
  have e := fun (h0 : hl < 65536) => rl_7C (pc := 579) (kb_579 hm) (by decide) (a := a) (f := f) (bc := bc) (de := de) (hl := hl) (ix := ix) (sp := sp) (P := P) (G := G) h0
  try simp (config := {decide := false}) only [wd, jr, Nat.reduceAdd, Nat.reduceMul, Nat.reduceMod, Nat.reduceDiv, Nat.reduceLT, Nat.reduceSub, ↓reduceIte, forall_const, true_implies] at e
  exact e h0
theorem k_580 {a bc de hl ix sp : Nat} {f : Int32} {m : Nat → Nat} {P : PT} {G : GE} (hm : KM m) (h0 : a < 256) (h1 : hl < 65536) : RL G a f bc de hl ix sp 580 m P = RL G (a ||| (hl % 256)) (fLo (a ||| (hl % 256)) false) bc de hl ix sp 581 m P := by
  have e := fun (h0 : a < 256) (h1 : hl < 65536) => rl_B5 (pc := 580) (kb_580 hm) (by decide) (a := a) (f := f) (bc := bc) (de := de) (hl := hl) (ix := ix) (sp := sp) (P := P) (G := G) h0 h1
  try simp (config := {decide := false}) only [wd, jr, Nat.reduceAdd, Nat.reduceMul, Nat.reduceMod, Nat.reduceDiv, Nat.reduceLT, Nat.reduceSub, ↓reduceIte, forall_const, true_implies] at e
  exact e h0 h1
theorem k_581 {a bc de hl ix sp : Nat} {f : Int32} {m : Nat → Nat} {P : PT} {G : GE} (hm : KM m) (h0 : sp + 2 < 65536) : RL G a f bc de hl ix sp 581 m P = if cZ f then RL G a f bc de hl ix (sp + 2) (wd m sp) m P else RL G a f bc de hl ix sp 582 m P := by
  have e := fun (h0 : sp + 2 < 65536) => rl_C8 (pc := 581) (kb_581 hm) (by decide) (a := a) (f := f) (bc := bc) (de := de) (hl := hl) (ix := ix) (sp := sp) (P := P) (G := G) h0
  try simp (config := {decide := false}) only [wd, jr, Nat.reduceAdd, Nat.reduceMul, Nat.reduceMod, Nat.reduceDiv, Nat.reduceLT, Nat.reduceSub, ↓reduceIte, forall_const, true_implies] at e
  exact e h0
theorem k_582 {a bc de hl ix sp : Nat} {f : Int32} {m : Nat → Nat} {P : PT} {G : GE} (hm : KM m) (h0 : hl < 65536) (h1 : de < 65536) : RL G a f bc de hl ix sp 582 m P = RL G a f bc hl de ix sp 583 m P := by
  have e := fun (h0 : hl < 65536) (h1 : de < 65536) => rl_EB (pc := 582) (kb_582 hm) (by decide) (a := a) (f := f) (bc := bc) (de := de) (hl := hl) (ix := ix) (sp := sp) (P := P) (G := G) h0 h1
  try simp (config := {decide := false}) only [wd, jr, Nat.reduceAdd, Nat.reduceMul, Nat.reduceMod, Nat.reduceDiv, Nat.reduceLT, Nat.reduceSub, ↓reduceIte, forall_const, true_implies] at e
  exact e h0 h1
theorem k_583 {a bc de hl ix sp : Nat} {f : Int32} {m : Nat → Nat} {P : PT} {G : GE} (hm : KM m) (h0 : a < 256) : RL G a f bc de hl ix sp 583 m P = RL G (a ||| a) (fLo (a ||| a) false) bc de hl ix sp 584 m P := by
  have e := fun (h0 : a < 256) => rl_B7 (pc := 583) (kb_583 hm) (by decide) (a := a) (f := f) (bc := bc) (de := de) (hl := hl) (ix := ix) (sp := sp) (P := P) (G := G) h0
  try simp (config := {decide := false}) only [wd, jr, Nat.reduceAdd, Nat.reduceMul, Nat.reduceMod, Nat.reduceDiv, Nat.reduceLT, Nat.reduceSub, ↓reduceIte, forall_const, true_implies] at e
  exact e h0
theorem k_584 {a bc de hl ix sp : Nat} {f : Int32} {m : Nat → Nat} {P : PT} {G : GE} (hm : KM m) (h0 : hl < 65536) (h1 : de < 65536) : RL G a f bc de hl ix sp 584 m P = RL G a (fWs f hl de) bc de ((hl + 131072 - de - cyn f) % 65536) ix sp 586 m P := by
  have e := fun (h0 : hl < 65536) (h1 : de < 65536) => rl_ED52 (pc := 584) (kb_584 hm) (kb_585 hm) (by decide) (a := a) (f := f) (bc := bc) (de := de) (hl := hl) (ix := ix) (sp := sp) (P := P) (G := G) h0 h1
  try simp (config := {decide := false}) only [wd, jr, Nat.reduceAdd, Nat.reduceMul, Nat.reduceMod, Nat.reduceDiv, Nat.reduceLT, Nat.reduceSub, ↓reduceIte, forall_const, true_implies] at e
  exact e h0 h1
theorem k_586 {a bc de hl ix sp : Nat} {f : Int32} {m : Nat → Nat} {P : PT} {G : GE} (hm : KM m) (h0 : sp + 2 < 65536) : RL G a f bc de hl ix sp 586 m P = RL G a f bc de hl ix (sp + 2) (wd m sp) m P := by
  have e := fun (h0 : sp + 2 < 65536) => rl_C9 (pc := 586) (kb_586 hm) (by decide) (a := a) (f := f) (bc := bc) (de := de) (hl := hl) (ix := ix) (sp := sp) (P := P) (G := G) h0
  try simp (config := {decide := false}) only [wd, jr, Nat.reduceAdd, Nat.reduceMul, Nat.reduceMod, Nat.reduceDiv, Nat.reduceLT, Nat.reduceSub, ↓reduceIte, forall_const, true_implies] at e
  exact e h0
theorem k_587 {a bc de hl ix sp : Nat} {f : Int32} {m : Nat → Nat} {P : PT} {G : GE} (hm : KM m) (h0 : 2 ≤ sp) (h1 : sp < 65536) : RL G a f bc de hl ix sp 587 m P = RL G a f bc de hl ix (sp - 2) 1601 (up (up m (sp - 1) 2) (sp - 2) 590) P := by
  have e := fun (h0 : 2 ≤ sp) (h1 : sp < 65536) => rl_CD (pc := 587) (kb_587 hm) (by decide) (a := a) (f := f) (bc := bc) (de := de) (hl := hl) (ix := ix) (sp := sp) (P := P) (G := G) h0 h1
  try simp (config := {decide := false}) only [wd, jr, Nat.reduceAdd, Nat.reduceMul, Nat.reduceMod, Nat.reduceDiv, Nat.reduceLT, Nat.reduceSub, ↓reduceIte, forall_const, true_implies, kb_588 hm, kb_589 hm] at e
  exact e h0 h1
theorem k_590 {a bc de hl ix sp : Nat} {f : Int32} {m : Nat → Nat} {P : PT} {G : GE} (hm : KM m) (h0 : sp + 2 < 65536) : RL G a f bc de hl ix sp 590 m P = RL G a f bc de hl ix (sp + 2) (wd m sp) m P := by
  have e := fun (h0 : sp + 2 < 65536) => rl_C9 (pc := 590) (kb_590 hm) (by decide) (a := a) (f := f) (bc := bc) (de := de) (hl := hl) (ix := ix) (sp := sp) (P := P) (G := G) h0
  try simp (config := {decide := false}) only [wd, jr, Nat.reduceAdd, Nat.reduceMul, Nat.reduceMod, Nat.reduceDiv, Nat.reduceLT, Nat.reduceSub, ↓reduceIte, forall_const, true_implies] at e
  exact e h0
theorem k_717 {a bc de hl ix sp : Nat} {f : Int32} {m : Nat → Nat} {P : PT} {G : GE} (hm : KM m) (h0 : sp + 2 < 65536) : RL G a f bc de hl ix sp 717 m P = RL G a f bc de (wd m sp) ix (sp + 2) 718 m P := by
  have e := fun (h0 : sp + 2 < 65536) => rl_E1 (pc := 717) (kb_717 hm) (by decide) (a := a) (f := f) (bc := bc) (de := de) (hl := hl) (ix := ix) (sp := sp) (P := P) (G := G) h0
  try simp (config := {decide := false}) only [wd, jr, Nat.reduceAdd, Nat.reduceMul, Nat.reduceMod, Nat.reduceDiv, Nat.reduceLT, Nat.reduceSub, ↓reduceIte, forall_const, true_implies] at e
  exact e h0
theorem k_718 {a bc de hl ix sp : Nat} {f : Int32} {m : Nat → Nat} {P : PT} {G : GE} (hm : KM m) (h0 : hl < 65536) (h1 : de < 65536) : RL G a f bc de hl ix sp 718 m P = RL G a f bc (de / 256 * 256 + (rd m hl)) hl ix sp 719 m P := by
  have e := fun (h0 : hl < 65536) (h1 : de < 65536) => rl_5E (pc := 718) (kb_718 hm) (by decide) (a := a) (f := f) (bc := bc) (de := de) (hl := hl) (ix := ix) (sp := sp) (P := P) (G := G) h0 h1
  try simp (config := {decide := false}) only [wd, jr, Nat.reduceAdd, Nat.reduceMul, Nat.reduceMod, Nat.reduceDiv, Nat.reduceLT, Nat.reduceSub, ↓reduceIte, forall_const, true_implies] at e
  exact e h0 h1
theorem k_719 {a bc de hl ix sp : Nat} {f : Int32} {m : Nat → Nat} {P : PT} {G : GE} (hm : KM m) (h0 : hl < 65536) : RL G a f bc de hl ix sp 719 m P = RL G a f bc de ((hl + 1) % 65536) ix sp 720 m P := by
  have e := fun (h0 : hl < 65536) => rl_23 (pc := 719) (kb_719 hm) (by decide) (a := a) (f := f) (bc := bc) (de := de) (hl := hl) (ix := ix) (sp := sp) (P := P) (G := G) h0
  try simp (config := {decide := false}) only [wd, jr, Nat.reduceAdd, Nat.reduceMul, Nat.reduceMod, Nat.reduceDiv, Nat.reduceLT, Nat.reduceSub, ↓reduceIte, forall_const, true_implies] at e
  exact e h0
theorem k_720 {a bc de hl ix sp : Nat} {f : Int32} {m : Nat → Nat} {P : PT} {G : GE} (hm : KM m) (h0 : hl < 65536) (h1 : de < 65536) : RL G a f bc de hl ix sp 720 m P = RL G a f bc ((rd m hl) * 256 + de % 256) hl ix sp 721 m P := by
  have e := fun (h0 : hl < 65536) (h1 : de < 65536) => rl_56 (pc := 720) (kb_720 hm) (by decide) (a := a) (f := f) (bc := bc) (de := de) (hl := hl) (ix := ix) (sp := sp) (P := P) (G := G) h0 h1
  try simp (config := {decide := false}) only [wd, jr, Nat.reduceAdd, Nat.reduceMul, Nat.reduceMod, Nat.reduceDiv, Nat.reduceLT, Nat.reduceSub, ↓reduceIte, forall_const, true_implies] at e
  exact e h0 h1
theorem k_721 {a bc de hl ix sp : Nat} {f : Int32} {m : Nat → Nat} {P : PT} {G : GE} (hm : KM m) (h0 : hl < 65536) : RL G a f bc de hl ix sp 721 m P = RL G a f bc de ((hl + 1) % 65536) ix sp 722 m P := by
  have e := fun (h0 : hl < 65536) => rl_23 (pc := 721) (kb_721 hm) (by decide) (a := a) (f := f) (bc := bc) (de := de) (hl := hl) (ix := ix) (sp := sp) (P := P) (G := G) h0
  try simp (config := {decide := false}) only [wd, jr, Nat.reduceAdd, Nat.reduceMul, Nat.reduceMod, Nat.reduceDiv, Nat.reduceLT, Nat.reduceSub, ↓reduceIte, forall_const, true_implies] at e
  exact e h0
theorem k_722 {a bc de hl ix sp : Nat} {f : Int32} {m : Nat → Nat} {P : PT} {G : GE} (hm : KM m) (h0 : hl < 65536) (h1 : bc < 65536) : RL G a f bc de hl ix sp 722 m P = RL G a f (bc / 256 * 256 + (rd m hl)) de hl ix sp 723 m P := by
  have e := fun (h0 : hl < 65536) (h1 : bc < 65536) => rl_4E (pc := 722) (kb_722 hm) (by decide) (a := a) (f := f) (bc := bc) (de := de) (hl := hl) (ix := ix) (sp := sp) (P := P) (G := G) h0 h1
  try simp (config := {decide := false}) only [wd, jr, Nat.reduceAdd, Nat.reduceMul, Nat.reduceMod, Nat.reduceDiv, Nat.reduceLT, Nat.reduceSub, ↓reduceIte, forall_const, true_implies] at e
  exact e h0 h1
theorem k_723 {a bc de hl ix sp : Nat} {f : Int32} {m : Nat → Nat} {P : PT} {G : GE} (hm : KM m) (h0 : hl < 65536) : RL G a f bc de hl ix sp 723 m P = RL G a f bc de ((hl + 1) % 65536) ix sp 724 m P := by
  have e := fun (h0 : hl < 65536) => rl_23 (pc := 723) (kb_723 hm) (by decide) (a := a) (f := f) (bc := bc) (de := de) (hl := hl) (ix := ix) (sp := sp) (P := P) (G := G) h0
  try simp (config := {decide := false}) only [wd, jr, Nat.reduceAdd, Nat.reduceMul, Nat.reduceMod, Nat.reduceDiv, Nat.reduceLT, Nat.reduceSub, ↓reduceIte, forall_const, true_implies] at e
  exact e h0
theorem k_724 {a bc de hl ix sp : Nat} {f : Int32} {m : Nat → Nat} {P : PT} {G : GE} (hm : KM m) (h0 : hl < 65536) (h1 : bc < 65536) : RL G a f bc de hl ix sp 724 m P = RL G a f ((rd m hl) * 256 + bc % 256) de hl ix sp 725 m P := by
  have e := fun (h0 : hl < 65536) (h1 : bc < 65536) => rl_46 (pc := 724) (kb_724 hm) (by decide) (a := a) (f := f) (bc := bc) (de := de) (hl := hl) (ix := ix) (sp := sp) (P := P) (G := G) h0 h1
  try simp (config := {decide := false}) only [wd, jr, Nat.reduceAdd, Nat.reduceMul, Nat.reduceMod, Nat.reduceDiv, Nat.reduceLT, Nat.reduceSub, ↓reduceIte, forall_const, true_implies] at e
  exact e h0 h1
theorem k_725 {a bc de hl ix sp : Nat} {f : Int32} {m : Nat → Nat} {P : PT} {G : GE} (hm : KM m) (h0 : hl < 65536) : RL G a f bc de hl ix sp 725 m P = RL G a f bc de ((hl + 1) % 65536) ix sp 726 m P := by
  have e := fun (h0 : hl < 65536) => rl_23 (pc := 725) (kb_725 hm) (by decide) (a := a) (f := f) (bc := bc) (de := de) (hl := hl) (ix := ix) (sp := sp) (P := P) (G := G) h0
  try simp (config := {decide := false}) only [wd, jr, Nat.reduceAdd, Nat.reduceMul, Nat.reduceMod, Nat.reduceDiv, Nat.reduceLT, Nat.reduceSub, ↓reduceIte, forall_const, true_implies] at e
  exact e h0
theorem k_726 {a bc de hl ix sp : Nat} {f : Int32} {m : Nat → Nat} {P : PT} {G : GE} (hm : KM m) (h0 : hl < 65536) : RL G a f bc de hl ix sp 726 m P = RL G a f bc de hl ix sp 729 (up (up m 236 hl) (237) (hl / 256)) P := by
  have e := fun (h0 : hl < 65536) (h1 : (wd m (726 + 1)) + 1 < 65536) => rl_22 (pc := 726) (kb_726 hm) (by decide) (a := a) (f := f) (bc := bc) (de := de) (hl := hl) (ix := ix) (sp := sp) (P := P) (G := G) h0 h1
  try simp (config := {decide := false}) only [wd, jr, Nat.reduceAdd, Nat.reduceMul, Nat.reduceMod, Nat.reduceDiv, Nat.reduceLT, Nat.reduceSub, ↓reduceIte, forall_const, true_implies, kb_727 hm, kb_728 hm] at e
  exact e h0
theorem k_729 {a bc de hl ix sp : Nat} {f : Int32} {m : Nat → Nat} {P : PT} {G : GE} (hm : KM m)  : RL G a f bc de hl ix sp 729 m P = RL G a f bc de (wd m 226) ix sp 732 m P := by
  have e := fun (h0 : (wd m (729 + 1)) + 1 < 65536) => rl_2A (pc := 729) (kb_729 hm) (by decide) (a := a) (f := f) (bc := bc) (de := de) (hl := hl) (ix := ix) (sp := sp) (P := P) (G := G) h0
  try simp (config := {decide := false}) only [wd, jr, Nat.reduceAdd, Nat.reduceMul, Nat.reduceMod, Nat.reduceDiv, Nat.reduceLT, Nat.reduceSub, ↓reduceIte, forall_const, true_implies, kb_730 hm, kb_731 hm] at e
  exact e 
theorem k_732 {a bc de hl ix sp : Nat} {f : Int32} {m : Nat → Nat} {P : PT} {G : GE} (hm : KM m) (h0 : a < 256) : RL G a f bc de hl ix sp 732 m P = RL G (a ||| a) (fLo (a ||| a) false) bc de hl ix sp 733 m P := by
  have e := fun (h0 : a < 256) => rl_B7 (pc := 732) (kb_732 hm) (by decide) (a := a) (f := f) (bc := bc) (de := de) (hl := hl) (ix := ix) (sp := sp) (P := P) (G := G) h0
  try simp (config := {decide := false}) only [wd, jr, Nat.reduceAdd, Nat.reduceMul, Nat.reduceMod, Nat.reduceDiv, Nat.reduceLT, Nat.reduceSub, ↓reduceIte, forall_const, true_implies] at e
  exact e h0
theorem k_733 {a bc de hl ix sp : Nat} {f : Int32} {m : Nat → Nat} {P : PT} {G : GE} (hm : KM m) (h0 : hl < 65536) (h1 : de < 65536) : RL G a f bc de hl ix sp 733 m P = RL G a (fWs f hl de) bc de ((hl + 131072 - de - cyn f) % 65536) ix sp 735 m P := by
  have e := fun (h0 : hl < 65536) (h1 : de < 65536) => rl_ED52 (pc := 733) (kb_733 hm) (kb_734 hm) (by decide) (a := a) (f := f) (bc := bc) (de := de) (hl := hl) (ix := ix) (sp := sp) (P := P) (G := G) h0 h1
  try simp (config := {decide := false}) only [wd, jr, Nat.reduceAdd, Nat.reduceMul, Nat.reduceMod, Nat.reduceDiv, Nat.reduceLT, Nat.reduceSub, ↓reduceIte, forall_const, true_implies] at e
  exact e h0 h1
theorem k_735 {a bc de hl ix sp : Nat} {f : Int32} {m : Nat → Nat} {P : PT} {G : GE} (hm : KM m)  : RL G a f bc de hl ix sp 735 m P = if cC f then RL G a f bc de hl ix sp 1586 m P else RL G a f bc de hl ix sp 738 m P := by
  have e := fun (_ : True) => rl_DA (pc := 735) (kb_735 hm) (by decide) (a := a) (f := f) (bc := bc) (de := de) (hl := hl) (ix := ix) (sp := sp) (P := P) (G := G) 
  try simp (config := {decide := false}) only [wd, jr, Nat.reduceAdd, Nat.reduceMul, Nat.reduceMod, Nat.reduceDiv, Nat.reduceLT, Nat.reduceSub, ↓reduceIte, forall_const, true_implies, kb_736 hm, kb_737 hm] at e
  exact e 
theorem k_738 {a bc de hl ix sp : Nat} {f : Int32} {m : Nat → Nat} {P : PT} {G : GE} (hm : KM m) (h0 : hl < 65536) : RL G a f bc de hl ix sp 738 m P = RL G a f bc de hl ix sp 741 (up (up m 226 hl) (227) (hl / 256)) P := by
  have e := fun (h0 : hl < 65536) (h1 : (wd m (738 + 1)) + 1 < 65536) => rl_22 (pc := 738) (kb_738 hm) (by decide) (a := a) (f := f) (bc := bc) (de := de) (hl := hl) (ix := ix) (sp := sp) (P := P) (G := G) h0 h1
  try simp (config := {decide := false}) only [wd, jr, Nat.reduceAdd, Nat.reduceMul, Nat.reduceMod, Nat.reduceDiv, Nat.reduceLT, Nat.reduceSub, ↓reduceIte, forall_const, true_implies, kb_739 hm, kb_740 hm] at e
  exact e h0
theorem k_741 {a bc de hl ix sp : Nat} {f : Int32} {m : Nat → Nat} {P : PT} {G : GE} (hm : KM m)  : RL G a f bc de hl ix sp 741 m P = RL G a f bc de (wd m 228) ix sp 744 m P := by
  have e := fun (h0 : (wd m (741 + 1)) + 1 < 65536) => rl_2A (pc := 741) (kb_741 hm) (by decide) (a := a) (f := f) (bc := bc) (de := de) (hl := hl) (ix := ix) (sp := sp) (P := P) (G := G) h0
  try simp (config := {decide := false}) only [wd, jr, Nat.reduceAdd, Nat.reduceMul, Nat.reduceMod, Nat.reduceDiv, Nat.reduceLT, Nat.reduceSub, ↓reduceIte, forall_const, true_implies, kb_742 hm, kb_743 hm] at e
  exact e 
theorem k_744 {a bc de hl ix sp : Nat} {f : Int32} {m : Nat → Nat} {P : PT} {G : GE} (hm : KM m) (h0 : hl < 65536) : RL G a f bc de hl ix sp 744 m P = RL G a f bc de ((hl + 1) % 65536) ix sp 745 m P := by
  have e := fun (h0 : hl < 65536) => rl_23 (pc := 744) (kb_744 hm) (by decide) (a := a) (f := f) (bc := bc) (de := de) (hl := hl) (ix := ix) (sp := sp) (P := P) (G := G) h0
  try simp (config := {decide := false}) only [wd, jr, Nat.reduceAdd, Nat.reduceMul, Nat.reduceMod, Nat.reduceDiv, Nat.reduceLT, Nat.reduceSub, ↓reduceIte, forall_const, true_implies] at e
  exact e h0
theorem k_745 {a bc de hl ix sp : Nat} {f : Int32} {m : Nat → Nat} {P : PT} {G : GE} (hm : KM m) (h0 : hl < 65536) : RL G a f bc de hl ix sp 745 m P = RL G a f bc de hl ix sp 748 (up (up m 228 hl) (229) (hl / 256)) P := by
  have e := fun (h0 : hl < 65536) (h1 : (wd m (745 + 1)) + 1 < 65536) => rl_22 (pc := 745) (kb_745 hm) (by decide) (a := a) (f := f) (bc := bc) (de := de) (hl := hl) (ix := ix) (sp := sp) (P := P) (G := G) h0 h1
  try simp (config := {decide := false}) only [wd, jr, Nat.reduceAdd, Nat.reduceMul, Nat.reduceMod, Nat.reduceDiv, Nat.reduceLT, Nat.reduceSub, ↓reduceIte, forall_const, true_implies, kb_746 hm, kb_747 hm] at e
  exact e h0
theorem k_748 {a bc de hl ix sp : Nat} {f : Int32} {m : Nat → Nat} {P : PT} {G : GE} (hm : KM m) (h0 : 2 ≤ sp) (h1 : sp < 65536) (h2 : ix < 65536) : RL G a f bc de hl ix sp 748 m P = RL G a f bc de hl ix (sp - 2) 750 (up (up m (sp - 1) (ix / 256)) (sp - 2) ix) P := by
  have e := fun (h0 : 2 ≤ sp) (h1 : sp < 65536) (h2 : ix < 65536) => rl_DDE5 (pc := 748) (kb_748 hm) (kb_749 hm) (by decide) (a := a) (f := f) (bc := bc) (de := de) (hl := hl) (ix := ix) (sp := sp) (P := P) (G := G) h0 h1 h2
  try simp (config := {decide := false}) only [wd, jr, Nat.reduceAdd, Nat.reduceMul, Nat.reduceMod, Nat.reduceDiv, Nat.reduceLT, Nat.reduceSub, ↓reduceIte, forall_const, true_implies] at e
  exact e h0 h1 h2
theorem k_750 {a bc de hl ix sp : Nat} {f : Int32} {m : Nat → Nat} {P : PT} {G : GE} (hm : KM m)  : RL G a f bc de hl ix sp 750 m P = RL G a f bc de hl 0 sp 754 m P := by
  have e := fun (_ : True) => rl_DD21 (pc := 750) (kb_750 hm) (kb_751 hm) (by decide) (a := a) (f := f) (bc := bc) (de := de) (hl := hl) (ix := ix) (sp := sp) (P := P) (G := G) 
  try simp (config := {decide := false}) only [wd, jr, Nat.reduceAdd, Nat.reduceMul, Nat.reduceMod, Nat.reduceDiv, Nat.reduceLT, Nat.reduceSub, ↓reduceIte, forall_const, true_implies, kb_752 hm, kb_753 hm] at e
  exact e 
theorem k_754 {a bc de hl ix sp : Nat} {f : Int32} {m : Nat → Nat} {P : PT} {G : GE} (hm : KM m) (h0 : ix < 65536) (h1 : sp < 65536) : RL G a f bc de hl ix sp 754 m P = RL G a (fAdd f ix sp) bc de hl ((ix + sp) % 65536) sp 756 m P := by
  have e := fun (h0 : ix < 65536) (h1 : sp < 65536) => rl_DD39 (pc := 754) (kb_754 hm) (kb_755 hm) (by decide) (a := a) (f := f) (bc := bc) (de := de) (hl := hl) (ix := ix) (sp := sp) (P := P) (G := G) h0 h1
  try simp (config := {decide := false}) only [wd, jr, Nat.reduceAdd, Nat.reduceMul, Nat.reduceMod, Nat.reduceDiv, Nat.reduceLT, Nat.reduceSub, ↓reduceIte, forall_const, true_implies] at e
  exact e h0 h1
theorem k_756 {a bc de hl ix sp : Nat} {f : Int32} {m : Nat → Nat} {P : PT} {G : GE} (hm : KM m) (h0 : 2 ≤ sp) (h1 : sp < 65536) (h2 : de < 65536) : RL G a f bc de hl ix sp 756 m P = RL G a f bc de hl ix (sp - 2) 757 (up (up m (sp - 1) (de / 256)) (sp - 2) de) P := by
  have e := fun (h0 : 2 ≤ sp) (h1 : sp < 65536) (h2 : de < 65536) => rl_D5 (pc := 756) (kb_756 hm) (by decide) (a := a) (f := f) (bc := bc) (de := de) (hl := hl) (ix := ix) (sp := sp) (P := P) (G := G) h0 h1 h2
  try simp (config := {decide := false}) only [wd, jr, Nat.reduceAdd, Nat.reduceMul, Nat.reduceMod, Nat.reduceDiv, Nat.reduceLT, Nat.reduceSub, ↓reduceIte, forall_const, true_implies] at e
  exact e h0 h1 h2
theorem k_757 {a bc de hl ix sp : Nat} {f : Int32} {m : Nat → Nat} {P : PT} {G : GE} (hm : KM m) (h0 : bc < 65536) : RL G a f bc de hl ix sp 757 m P = RL G a f ((bc + 65535) % 65536) de hl ix sp 758 m P := by
  have e := fun (h0 : bc < 65536) => rl_0B (pc := 757) (kb_757 hm) (by decide) (a := a) (f := f) (bc := bc) (de := de) (hl := hl) (ix := ix) (sp := sp) (P := P) (G := G) h0
  try simp (config := {decide := false}) only [wd, jr, Nat.reduceAdd, Nat.reduceMul, Nat.reduceMod, Nat.reduceDiv, Nat.reduceLT, Nat.reduceSub, ↓reduceIte, forall_const, true_implies] at e
  exact e h0
theorem k_758 {a bc de hl ix sp : Nat} {f : Int32} {m : Nat → Nat} {P : PT} {G : GE} (hm : KM m) (h0 : bc < 65536) : RL G a f bc de hl ix sp 758 m P = RL G a f ((bc + 65535) % 65536) de hl ix sp 759 m P := by
  have e := fun (h0 : bc < 65536) => rl_0B (pc := 758) (kb_758 hm) (by decide) (a := a) (f := f) (bc := bc) (de := de) (hl := hl) (ix := ix) (sp := sp) (P := P) (G := G) h0
  try simp (config := {decide := false}) only [wd, jr, Nat.reduceAdd, Nat.reduceMul, Nat.reduceMod, Nat.reduceDiv, Nat.reduceLT, Nat.reduceSub, ↓reduceIte, forall_const, true_implies] at e
  exact e h0
theorem k_759 {a bc de hl ix sp : Nat} {f : Int32} {m : Nat → Nat} {P : PT} {G : GE} (hm : KM m)  : RL G a f bc de hl ix sp 759 m P = RL G a f bc de 0 ix sp 762 m P := by
  have e := fun (_ : True) => rl_21 (pc := 759) (kb_759 hm) (by decide) (a := a) (f := f) (bc := bc) (de := de) (hl := hl) (ix := ix) (sp := sp) (P := P) (G := G) 
  try simp (config := {decide := false}) only [wd, jr, Nat.reduceAdd, Nat.reduceMul, Nat.reduceMod, Nat.reduceDiv, Nat.reduceLT, Nat.reduceSub, ↓reduceIte, forall_const, true_implies, kb_760 hm, kb_761 hm] at e
  exact e 
theorem k_762 {a bc de hl ix sp : Nat} {f : Int32} {m : Nat → Nat} {P : PT} {G : GE} (hm : KM m) (h0 : a < 256) : RL G a f bc de hl ix sp 762 m P = RL G (a ||| a) (fLo (a ||| a) false) bc de hl ix sp 763 m P := by
  have e := fun (h0 : a < 256) => rl_B7 (pc := 762) (kb_762 hm) (by decide) (a := a) (f := f) (bc := bc) (de := de) (hl := hl) (ix := ix) (sp := sp) (P := P) (G := G) h0
  try simp (config := {decide := false}) only [wd, jr, Nat.reduceAdd, Nat.reduceMul, Nat.reduceMod, Nat.reduceDiv, Nat.reduceLT, Nat.reduceSub, ↓reduceIte, forall_const, true_implies] at e
  exact e h0
theorem k_763 {a bc de hl ix sp : Nat} {f : Int32} {m : Nat → Nat} {P : PT} {G : GE} (hm : KM m) (h0 : hl < 65536) (h1 : bc < 65536) : RL G a f bc de hl ix sp 763 m P = RL G a (fWs f hl bc) bc de ((hl + 131072 - bc - cyn f) % 65536) ix sp 765 m P := by
  have e := fun (h0 : hl < 65536) (h1 : bc < 65536) => rl_ED42 (pc := 763) (kb_763 hm) (kb_764 hm) (by decide) (a := a) (f := f) (bc := bc) (de := de) (hl := hl) (ix := ix) (sp := sp) (P := P) (G := G) h0 h1
  try simp (config := {decide := false}) only [wd, jr, Nat.reduceAdd, Nat.reduceMul, Nat.reduceMod, Nat.reduceDiv, Nat.reduceLT, Nat.reduceSub, ↓reduceIte, forall_const, true_implies] at e
  exact e h0 h1
theorem k_765 {a bc de hl ix sp : Nat} {f : Int32} {m : Nat → Nat} {P : PT} {G : GE} (hm : KM m) (h0 : hl < 65536) (h1 : sp < 65536) : RL G a f bc de hl ix sp 765 m P = RL G a (fAdd f hl sp) bc de ((hl + sp) % 65536) ix sp 766 m P := by
  have e := fun (h0 : hl < 65536) (h1 : sp < 65536) => rl_39 (pc := 765) (kb_765 hm) (by decide) (a := a) (f := f) (bc := bc) (de := de) (hl := hl) (ix := ix) (sp := sp) (P := P) (G := G) h0 h1
  try simp (config := {decide := false}) only [wd, jr, Nat.reduceAdd, Nat.reduceMul, Nat.reduceMod, Nat.reduceDiv, Nat.reduceLT, Nat.reduceSub, ↓reduceIte, forall_const, true_implies] at e
  exact e h0 h1
theorem k_766 {a bc de hl ix sp : Nat} {f : Int32} {m : Nat → Nat} {P : PT} {G : GE} (hm : KM m) (h0 : hl < 65536) : RL G a f bc de hl ix sp 766 m P = RL G a f bc de hl ix hl 767 m P := by
  have e := fun (h0 : hl < 65536) => rl_F9 (pc := 766) (kb_766 hm) (by decide) (a := a) (f := f) (bc := bc) (de := de) (hl := hl) (ix := ix) (sp := sp) (P := P) (G := G) h0
  try simp (config := {decide := false}) only [wd, jr, Nat.reduceAdd, Nat.reduceMul, Nat.reduceMod, Nat.reduceDiv, Nat.reduceLT, Nat.reduceSub, ↓reduceIte, forall_const, true_implies] at e
  exact e h0
theorem k_767 {a bc de hl ix sp : Nat} {f : Int32} {m : Nat → Nat} {P : PT} {G : GE} (hm : KM m) (h0 : hl < 65536) : RL G a f bc de hl ix sp 767 m P = RL G a f bc de hl ix sp 769 (up m hl 0) P := by
  have e := fun (h0 : hl < 65536) => rl_36 (pc := 767) (kb_767 hm) (by decide) (a := a) (f := f) (bc := bc) (de := de) (hl := hl) (ix := ix) (sp := sp) (P := P) (G := G) h0
  try simp (config := {decide := false}) only [wd, jr, Nat.reduceAdd, Nat.reduceMul, Nat.reduceMod, Nat.reduceDiv, Nat.reduceLT, Nat.reduceSub, ↓reduceIte, forall_const, true_implies, kb_768 hm] at e
  exact e h0
theorem k_769 {a bc de hl ix sp : Nat} {f : Int32} {m : Nat → Nat} {P : PT} {G : GE} (hm : KM m) (h0 : hl < 65536) (h1 : de < 65536) : RL G a f bc de hl ix sp 769 m P = RL G a f bc ((hl / 256) * 256 + de % 256) hl ix sp 770 m P := by
  have e := fun (h0 : hl < 65536) (h1 : de < 65536) => rl_54 (pc := 769) (kb_769 hm) (by decide) (a := a) (f := f) (bc := bc) (de := de) (hl := hl) (ix := ix) (sp := sp) (P := P) (G := G) h0 h1
  try simp (config := {decide := false}) only [wd, jr, Nat.reduceAdd, Nat.reduceMul, Nat.reduceMod, Nat.reduceDiv, Nat.reduceLT, Nat.reduceSub, ↓reduceIte, forall_const, true_implies] at e
  exact e h0 h1
theorem k_770 {a bc de hl ix sp : Nat} {f : Int32} {m : Nat → Nat} {P : PT} {G : GE} (hm : KM m) (h0 : hl < 65536) (h1 : de < 65536) : RL G a f bc de hl ix sp 770 m P = RL G a f bc (de / 256 * 256 + (hl % 256)) hl ix sp 771 m P := by
  have e := fun (h0 : hl < 65536) (h1 : de < 65536) => rl_5D (pc := 770) (kb_770 hm) (by decide) (a := a) (f := f) (bc := bc) (de := de) (hl := hl) (ix := ix) (sp := sp) (P := P) (G := G) h0 h1
  try simp (config := {decide := false}) only [wd, jr, Nat.reduceAdd, Nat.reduceMul, Nat.reduceMod, Nat.reduceDiv, Nat.reduceLT, Nat.reduceSub, ↓reduceIte, forall_const, true_implies] at e
  exact e h0 h1
theorem k_771 {a bc de hl ix sp : Nat} {f : Int32} {m : Nat → Nat} {P : PT} {G : GE} (hm : KM m) (h0 : de < 65536) : RL G a f bc de hl ix sp 771 m P = RL G a f bc ((de + 1) % 65536) hl ix sp 772 m P := by
  have e := fun (h0 : de < 65536) => rl_13 (pc := 771) (kb_771 hm) (by decide) (a := a) (f := f) (bc := bc) (de := de) (hl := hl) (ix := ix) (sp := sp) (P := P) (G := G) h0
  try simp (config := {decide := false}) only [wd, jr, Nat.reduceAdd, Nat.reduceMul, Nat.reduceMod, Nat.reduceDiv, Nat.reduceLT, Nat.reduceSub, ↓reduceIte, forall_const, true_implies] at e
  exact e h0
theorem k_772 {a bc de hl ix sp : Nat} {f : Int32} {m : Nat → Nat} {P : PT} {G : GE} (hm : KM m) (h0 : bc < 65536) : RL G a f bc de hl ix sp 772 m P = RL G a f ((bc + 65535) % 65536) de hl ix sp 773 m P := by
  have e := fun (h0 : bc < 65536) => rl_0B (pc := 772) (kb_772 hm) (by decide) (a := a) (f := f) (bc := bc) (de := de) (hl := hl) (ix := ix) (sp := sp) (P := P) (G := G) h0
  try simp (config := {decide := false}) only [wd, jr, Nat.reduceAdd, Nat.reduceMul, Nat.reduceMod, Nat.reduceDiv, Nat.reduceLT, Nat.reduceSub, ↓reduceIte, forall_const, true_implies] at e
  exact e h0
theorem k_773 {a bc de hl ix sp : Nat} {f : Int32} {m : Nat → Nat} {P : PT} {G : GE} (hm : KM m) (h0 : bc < 65536) (h1 : de < 65536) (h2 : hl < 65536) : RL G a f bc de hl ix sp 773 m P = if ¬ ((bc + 65535) % 65536) = 0 then RL G a (fBlk f ((bc + 65535) % 65536)) ((bc + 65535) % 65536) ((de + 1) % 65536) ((hl + 1) % 65536) ix sp 773 (up m de (rd m hl)) P else RL G a (fBlk f ((bc + 65535) % 65536)) ((bc + 65535) % 65536) ((de + 1) % 65536) ((hl + 1) % 65536) ix sp 775 (up m de (rd m hl)) P := by
  have e := fun (h0 : bc < 65536) (h1 : de < 65536) (h2 : hl < 65536) => rl_EDB0 (pc := 773) (kb_773 hm) (kb_774 hm) (by decide) (a := a) (f := f) (bc := bc) (de := de) (hl := hl) (ix := ix) (sp := sp) (P := P) (G := G) h0 h1 h2
  try simp (config := {decide := false}) only [wd, jr, Nat.reduceAdd, Nat.reduceMul, Nat.reduceMod, Nat.reduceDiv, Nat.reduceLT, Nat.reduceSub, ↓reduceIte, forall_const, true_implies] at e
  exact e h0 h1 h2
theorem k_775 {a bc de hl ix sp : Nat} {f : Int32} {m : Nat → Nat} {P : PT} {G : GE} (hm : KM m)  : RL G a f bc de hl ix sp 775 m P = RL G a f bc de (wd m 236) ix sp 778 m P := by
  have e := fun (h0 : (wd m (775 + 1)) + 1 < 65536) => rl_2A (pc := 775) (kb_775 hm) (by decide) (a := a) (f := f) (bc := bc) (de := de) (hl := hl) (ix := ix) (sp := sp) (P := P) (G := G) h0
  try simp (config := {decide := false}) only [wd, jr, Nat.reduceAdd, Nat.reduceMul, Nat.reduceMod, Nat.reduceDiv, Nat.reduceLT, Nat.reduceSub, ↓reduceIte, forall_const, true_implies, kb_776 hm, kb_777 hm] at e
  exact e 
theorem k_778 {a bc de hl ix sp : Nat} {f : Int32} {m : Nat → Nat} {P : PT} {G : GE} (hm : KM m) (h0 : hl < 65536) : RL G a f bc de hl ix sp 778 m P = RL G a f bc de hl ix sp hl m P := by
  have e := fun (h0 : hl < 65536) => rl_E9 (pc := 778) (kb_778 hm) (by decide) (a := a) (f := f) (bc := bc) (de := de) (hl := hl) (ix := ix) (sp := sp) (P := P) (G := G) h0
  try simp (config := {decide := false}) only [wd, jr, Nat.reduceAdd, Nat.reduceMul, Nat.reduceMod, Nat.reduceDiv, Nat.reduceLT, Nat.reduceSub, ↓reduceIte, forall_const, true_implies] at e
  exact e h0
theorem k_779 {a bc de hl ix sp : Nat} {f : Int32} {m : Nat → Nat} {P : PT} {G : GE} (hm : KM m) (h0 : hl < 65536) : RL G a f bc de hl ix sp 779 m P = RL G a f bc de hl ix sp 782 (up (up m 238 hl) (239) (hl / 256)) P := by
  have e := fun (h0 : hl < 65536) (h1 : (wd m (779 + 1)) + 1 < 65536) => rl_22 (pc := 779) (kb_779 hm) (by decide) (a := a) (f := f) (bc := bc) (de := de) (hl := hl) (ix := ix) (sp := sp) (P := P) (G := G) h0 h1
  try simp (config := {decide := false}) only [wd, jr, Nat.reduceAdd, Nat.reduceMul, Nat.reduceMod, Nat.reduceDiv, Nat.reduceLT, Nat.reduceSub, ↓reduceIte, forall_const, true_implies, kb_780 hm, kb_781 hm] at e
  exact e h0
theorem k_782 {a bc de hl ix sp : Nat} {f : Int32} {m : Nat → Nat} {P : PT} {G : GE} (hm : KM m) (h0 : ix < 65536) (h1 : de < 65536) : RL G a f bc de hl ix sp 782 m P = RL G a f bc (de / 256 * 256 + (rd m (jr ix 254))) hl ix sp 785 m P := by
  have e := fun (h0 : ix < 65536) (h1 : de < 65536) => rl_DD5E (pc := 782) (kb_782 hm) (kb_783 hm) (by decide) (a := a) (f := f) (bc := bc) (de := de) (hl := hl) (ix := ix) (sp := sp) (P := P) (G := G) h0 h1
  try simp (config := {decide := false}) only [wd, jr, Nat.reduceAdd, Nat.reduceMul, Nat.reduceMod, Nat.reduceDiv, Nat.reduceLT, Nat.reduceSub, ↓reduceIte, forall_const, true_implies, kb_784 hm] at e
  exact e h0 h1
theorem k_785 {a bc de hl ix sp : Nat} {f : Int32} {m : Nat → Nat} {P : PT} {G : GE} (hm : KM m) (h0 : ix < 65536) (h1 : de < 65536) : RL G a f bc de hl ix sp 785 m P = RL G a f bc ((rd m (jr ix 255)) * 256 + de % 256) hl ix sp 788 m P := by
  have e := fun (h0 : ix < 65536) (h1 : de < 65536) => rl_DD56 (pc := 785) (kb_785 hm) (kb_786 hm) (by decide) (a := a) (f := f) (bc := bc) (de := de) (hl := hl) (ix := ix) (sp := sp) (P := P) (G := G) h0 h1
  try simp (config := {decide := false}) only [wd, jr, Nat.reduceAdd, Nat.reduceMul, Nat.reduceMod, Nat.reduceDiv, Nat.reduceLT, Nat.reduceSub, ↓reduceIte, forall_const, true_implies, kb_787 hm] at e
  exact e h0 h1
theorem k_788 {a bc de hl ix sp : Nat} {f : Int32} {m : Nat → Nat} {P : PT} {G : GE} (hm : KM m)  : RL G a f bc de hl ix sp 788 m P = RL G a f bc de (wd m 226) ix sp 791 m P := by
  have e := fun (h0 : (wd m (788 + 1)) + 1 < 65536) => rl_2A (pc := 788) (kb_788 hm) (by decide) (a := a) (f := f) (bc := bc) (de := de) (hl := hl) (ix := ix) (sp := sp) (P := P) (G := G) h0
  try simp (config := {decide := false}) only [wd, jr, Nat.reduceAdd, Nat.reduceMul, Nat.reduceMod, Nat.reduceDiv, Nat.reduceLT, Nat.reduceSub, ↓reduceIte, forall_const, true_implies, kb_789 hm, kb_790 hm] at e
  exact e 
theorem k_791 {a bc de hl ix sp : Nat} {f : Int32} {m : Nat → Nat} {P : PT} {G : GE} (hm : KM m) (h0 : hl < 65536) (h1 : de < 65536) : RL G a f bc de hl ix sp 791 m P = RL G a (fAdd f hl de) bc de ((hl + de) % 65536) ix sp 792 m P := by
  have e := fun (h0 : hl < 65536) (h1 : de < 65536) => rl_19 (pc := 791) (kb_791 hm) (by decide) (a := a) (f := f) (bc := bc) (de := de) (hl := hl) (ix := ix) (sp := sp) (P := P) (G := G) h0 h1
  try simp (config := {decide := false}) only [wd, jr, Nat.reduceAdd, Nat.reduceMul, Nat.reduceMod, Nat.reduceDiv, Nat.reduceLT, Nat.reduceSub, ↓reduceIte, forall_const, true_implies] at e
  exact e h0 h1
theorem k_792 {a bc de hl ix sp : Nat} {f : Int32} {m : Nat → Nat} {P : PT} {G : GE} (hm : KM m) (h0 : hl < 65536) : RL G a f bc de hl ix sp 792 m P = RL G a f bc de hl ix sp 795 (up (up m 226 hl) (227) (hl / 256)) P := by
  have e := fun (h0 : hl < 65536) (h1 : (wd m (792 + 1)) + 1 < 65536) => rl_22 (pc := 792) (kb_792 hm) (by decide) (a := a) (f := f) (bc := bc) (de := de) (hl := hl) (ix := ix) (sp := sp) (P := P) (G := G) h0 h1
  try simp (config := {decide := false}) only [wd, jr, Nat.reduceAdd, Nat.reduceMul, Nat.reduceMod, Nat.reduceDiv, Nat.reduceLT, Nat.reduceSub, ↓reduceIte, forall_const, true_implies, kb_793 hm, kb_794 hm] at e
  exact e h0
theorem k_795 {a bc de hl ix sp : Nat} {f : Int32} {m : Nat → Nat} {P : PT} {G : GE} (hm : KM m)  : RL G a f bc de hl ix sp 795 m P = RL G a f bc de (wd m 228) ix sp 798 m P := by
  have e := fun (h0 : (wd m (795 + 1)) + 1 < 65536) => rl_2A (pc := 795) (kb_795 hm) (by decide) (a := a) (f := f) (bc := bc) (de := de) (hl := hl) (ix := ix) (sp := sp) (P := P) (G := G) h0
  try simp (config := {decide := false}) only [wd, jr, Nat.reduceAdd, Nat.reduceMul, Nat.reduceMod, Nat.reduceDiv, Nat.reduceLT, Nat.reduceSub, ↓reduceIte, forall_const, true_implies, kb_796 hm, kb_797 hm] at e
  exact e 
theorem k_798 {a bc de hl ix sp : Nat} {f : Int32} {m : Nat → Nat} {P : PT} {G : GE} (hm : KM m) (h0 : hl < 65536) : RL G a f bc de hl ix sp 798 m P = RL G a f bc de ((hl + 65535) % 65536) ix sp 799 m P := by
  have e := fun (h0 : hl < 65536) => rl_2B (pc := 798) (kb_798 hm) (by decide) (a := a) (f := f) (bc := bc) (de := de) (hl := hl) (ix := ix) (sp := sp) (P := P) (G := G) h0
  try simp (config := {decide := false}) only [wd, jr, Nat.reduceAdd, Nat.reduceMul, Nat.reduceMod, Nat.reduceDiv, Nat.reduceLT, Nat.reduceSub, ↓reduceIte, forall_const, true_implies] at e
  exact e h0
theorem k_799 {a bc de hl ix sp : Nat} {f : Int32} {m : Nat → Nat} {P : PT} {G : GE} (hm : KM m) (h0 : hl < 65536) : RL G a f bc de hl ix sp 799 m P = RL G a f bc de hl ix sp 802 (up (up m 228 hl) (229) (hl / 256)) P := by
  have e := fun (h0 : hl < 65536) (h1 : (wd m (799 + 1)) + 1 < 65536) => rl_22 (pc := 799) (kb_799 hm) (by decide) (a := a) (f := f) (bc := bc) (de := de) (hl := hl) (ix := ix) (sp := sp) (P := P) (G := G) h0 h1
  try simp (config := {decide := false}) only [wd, jr, Nat.reduceAdd, Nat.reduceMul, Nat.reduceMod, Nat.reduceDiv, Nat.reduceLT, Nat.reduceSub, ↓reduceIte, forall_const, true_implies, kb_800 hm, kb_801 hm] at e
  exact e h0
theorem k_802 {a bc de hl ix sp : Nat} {f : Int32} {m : Nat → Nat} {P : PT} {G : GE} (hm : KM m) (h0 : ix < 65536) : RL G a f bc de hl ix sp 802 m P = RL G a f bc de hl ix ix 804 m P := by
  have e := fun (h0 : ix < 65536) => rl_DDF9 (pc := 802) (kb_802 hm) (kb_803 hm) (by decide) (a := a) (f := f) (bc := bc) (de := de) (hl := hl) (ix := ix) (sp := sp) (P := P) (G := G) h0
  try simp (config := {decide := false}) only [wd, jr, Nat.reduceAdd, Nat.reduceMul, Nat.reduceMod, Nat.reduceDiv, Nat.reduceLT, Nat.reduceSub, ↓reduceIte, forall_const, true_implies] at e
  exact e h0
theorem k_804 {a bc de hl ix sp : Nat} {f : Int32} {m : Nat → Nat} {P : PT} {G : GE} (hm : KM m) (h0 : sp + 2 < 65536) : RL G a f bc de hl ix sp 804 m P = RL G a f bc de hl (wd m sp) (sp + 2) 806 m P := by
  have e := fun (h0 : sp + 2 < 65536) => rl_DDE1 (pc := 804) (kb_804 hm) (kb_805 hm) (by decide) (a := a) (f := f) (bc := bc) (de := de) (hl := hl) (ix := ix) (sp := sp) (P := P) (G := G) h0
  try simp (config := {decide := false}) only [wd, jr, Nat.reduceAdd, Nat.reduceMul, Nat.reduceMod, Nat.reduceDiv, Nat.reduceLT, Nat.reduceSub, ↓reduceIte, forall_const, true_implies] at e
  exact e h0
theorem k_806 {a bc de hl ix sp : Nat} {f : Int32} {m : Nat → Nat} {P : PT} {G : GE} (hm : KM m) (h0 : sp + 2 < 65536) : RL G a f bc de hl ix sp 806 m P = RL G a f bc (wd m sp) hl ix (sp + 2) 807 m P := by
  have e := fun (h0 : sp + 2 < 65536) => rl_D1 (pc := 806) (kb_806 hm) (by decide) (a := a) (f := f) (bc := bc) (de := de) (hl := hl) (ix := ix) (sp := sp) (P := P) (G := G) h0
  try simp (config := {decide := false}) only [wd, jr, Nat.reduceAdd, Nat.reduceMul, Nat.reduceMod, Nat.reduceDiv, Nat.reduceLT, Nat.reduceSub, ↓reduceIte, forall_const, true_implies] at e
  exact e h0
theorem k_807 {a bc de hl ix sp : Nat} {f : Int32} {m : Nat → Nat} {P : PT} {G : GE} (hm : KM m)  : RL G a f bc de hl ix sp 807 m P = RL G a f bc de 0 ix sp 810 m P := by
  have e := fun (_ : True) => rl_21 (pc := 807) (kb_807 hm) (by decide) (a := a) (f := f) (bc := bc) (de := de) (hl := hl) (ix := ix) (sp := sp) (P := P) (G := G) 
  try simp (config := {decide := false}) only [wd, jr, Nat.reduceAdd, Nat.reduceMul, Nat.reduceMod, Nat.reduceDiv, Nat.reduceLT, Nat.reduceSub, ↓reduceIte, forall_const, true_implies, kb_808 hm, kb_809 hm] at e
  exact e 
theorem k_810 {a bc de hl ix sp : Nat} {f : Int32} {m : Nat → Nat} {P : PT} {G : GE} (hm : KM m) (h0 : hl < 65536) (h1 : sp < 65536) : RL G a f bc de hl ix sp 810 m P = RL G a (fAdd f hl sp) bc de ((hl + sp) % 65536) ix sp 811 m P := by
  have e := fun (h0 : hl < 65536) (h1 : sp < 65536) => rl_39 (pc := 810) (kb_810 hm) (by decide) (a := a) (f := f) (bc := bc) (de := de) (hl := hl) (ix := ix) (sp := sp) (P := P) (G := G) h0 h1
  try simp (config := {decide := false}) only [wd, jr, Nat.reduceAdd, Nat.reduceMul, Nat.reduceMod, Nat.reduceDiv, Nat.reduceLT, Nat.reduceSub, ↓reduceIte, forall_const, true_implies] at e
  exact e h0 h1
theorem k_811 {a bc de hl ix sp : Nat} {f : Int32} {m : Nat → Nat} {P : PT} {G : GE} (hm : KM m) (h0 : hl < 65536) (h1 : bc < 65536) : RL G a f bc de hl ix sp 811 m P = RL G a (fAdd f hl bc) bc de ((hl + bc) % 65536) ix sp 812 m P := by
  have e := fun (h0 : hl < 65536) (h1 : bc < 65536) => rl_09 (pc := 811) (kb_811 hm) (by decide) (a := a) (f := f) (bc := bc) (de := de) (hl := hl) (ix := ix) (sp := sp) (P := P) (G := G) h0 h1
  try simp (config := {decide := false}) only [wd, jr, Nat.reduceAdd, Nat.reduceMul, Nat.reduceMod, Nat.reduceDiv, Nat.reduceLT, Nat.reduceSub, ↓reduceIte, forall_const, true_implies] at e
  exact e h0 h1
theorem k_812 {a bc de hl ix sp : Nat} {f : Int32} {m : Nat → Nat} {P : PT} {G : GE} (hm : KM m) (h0 : hl < 65536) : RL G a f bc de hl ix sp 812 m P = RL G a f bc de hl ix hl 813 m P := by
  have e := fun (h0 : hl < 65536) => rl_F9 (pc := 812) (kb_812 hm) (by decide) (a := a) (f := f) (bc := bc) (de := de) (hl := hl) (ix := ix) (sp := sp) (P := P) (G := G) h0
  try simp (config := {decide := false}) only [wd, jr, Nat.reduceAdd, Nat.reduceMul, Nat.reduceMod, Nat.reduceDiv, Nat.reduceLT, Nat.reduceSub, ↓reduceIte, forall_const, true_implies] at e
  exact e h0
theorem k_813 {a bc de hl ix sp : Nat} {f : Int32} {m : Nat → Nat} {P : PT} {G : GE} (hm : KM m) (h0 : 2 ≤ sp) (h1 : sp < 65536) (h2 : de < 65536) : RL G a f bc de hl ix sp 813 m P = RL G a f bc de hl ix (sp - 2) 814 (up (up m (sp - 1) (de / 256)) (sp - 2) de) P := by
  have e := fun (h0 : 2 ≤ sp) (h1 : sp < 65536) (h2 : de < 65536) => rl_D5 (pc := 813) (kb_813 hm) (by decide) (a := a) (f := f) (bc := bc) (de := de) (hl := hl) (ix := ix) (sp := sp) (P := P) (G := G) h0 h1 h2
  try simp (config := {decide := false}) only [wd, jr, Nat.reduceAdd, Nat.reduceMul, Nat.reduceMod, Nat.reduceDiv, Nat.reduceLT, Nat.reduceSub, ↓reduceIte, forall_const, true_implies] at e
  exact e h0 h1 h2
theorem k_814 {a bc de hl ix sp : Nat} {f : Int32} {m : Nat → Nat} {P : PT} {G : GE} (hm : KM m)  : RL G a f bc de hl ix sp 814 m P = RL G a f bc de (wd m 238) ix sp 817 m P := by
  have e := fun (h0 : (wd m (814 + 1)) + 1 < 65536) => rl_2A (pc := 814) (kb_814 hm) (by decide) (a := a) (f := f) (bc := bc) (de := de) (hl := hl) (ix := ix) (sp := sp) (P := P) (G := G) h0
  try simp (config := {decide := false}) only [wd, jr, Nat.reduceAdd, Nat.reduceMul, Nat.reduceMod, Nat.reduceDiv, Nat.reduceLT, Nat.reduceSub, ↓reduceIte, forall_const, true_implies, kb_815 hm, kb_816 hm] at e
  exact e 
theorem k_817 {a bc de hl ix sp : Nat} {f : Int32} {m : Nat → Nat} {P : PT} {G : GE} (hm : KM m) (h0 : sp + 2 < 65536) : RL G a f bc de hl ix sp 817 m P = RL G a f bc de hl ix (sp + 2) (wd m sp) m P := by
  have e := fun (h0 : sp + 2 < 65536) => rl_C9 (pc := 817) (kb_817 hm) (by decide) (a := a) (f := f) (bc := bc) (de := de) (hl := hl) (ix := ix) (sp := sp) (P := P) (G := G) h0
  try simp (config := {decide := false}) only [wd, jr, Nat.reduceAdd, Nat.reduceMul, Nat.reduceMod, Nat.reduceDiv, Nat.reduceLT, Nat.reduceSub, ↓reduceIte, forall_const, true_implies] at e
  exact e h0
theorem k_1246 {a bc de hl ix sp : Nat} {f : Int32} {m : Nat → Nat} {P : PT} {G : GE} (hm : KM m) (h0 : de < 65536) : RL G a f bc de hl ix sp 1246 m P = RL G (de / 256) f bc de hl ix sp 1247 m P := by
  have e := fun (h0 : de < 65536) => rl_7A (pc := 1246) (kb_1246 hm) (by decide) (a := a) (f := f) (bc := bc) (de := de) (hl := hl) (ix := ix) (sp := sp) (P := P) (G := G) h0
  try simp (config := {decide := false}) only [wd, jr, Nat.reduceAdd, Nat.reduceMul, Nat.reduceMod, Nat.reduceDiv, Nat.reduceLT, Nat.reduceSub, ↓reduceIte, forall_const, true_implies] at e
  exact e h0
theorem k_1247 {a bc de hl ix sp : Nat} {f : Int32} {m : Nat → Nat} {P : PT} {G : GE} (hm : KM m) (h0 : a < 256) : RL G a f bc de hl ix sp 1247 m P = RL G (a ||| a) (fLo (a ||| a) false) bc de hl ix sp 1248 m P := by
  have e := fun (h0 : a < 256) => rl_B7 (pc := 1247) (kb_1247 hm) (by decide) (a := a) (f := f) (bc := bc) (de := de) (hl := hl) (ix := ix) (sp := sp) (P := P) (G := G) h0
  try simp (config := {decide := false}) only [wd, jr, Nat.reduceAdd, Nat.reduceMul, Nat.reduceMod, Nat.reduceDiv, Nat.reduceLT, Nat.reduceSub, ↓reduceIte, forall_const, true_implies] at e
  exact e h0
theorem k_1248 {a bc de hl ix sp : Nat} {f : Int32} {m : Nat → Nat} {P : PT} {G : GE} (hm : KM m)  : RL G a f bc de hl ix sp 1248 m P = if ¬ cZ f then RL G a f bc de hl ix sp 67 m P else RL G a f bc de hl ix sp 1251 m P := by
  have e := fun (_ : True) => rl_C2 (pc := 1248) (kb_1248 hm) (by decide) (a := a) (f := f) (bc := bc) (de := de) (hl := hl) (ix := ix) (sp := sp) (P := P) (G := G) 
  try simp (config := {decide := false}) only [wd, jr, Nat.reduceAdd, Nat.reduceMul, Nat.reduceMod, Nat.reduceDiv, Nat.reduceLT, Nat.reduceSub, ↓reduceIte, forall_const, true_implies, kb_1249 hm, kb_1250 hm] at e
  exact e 
theorem k_1251 {a bc de hl ix sp : Nat} {f : Int32} {m : Nat → Nat} {P : PT} {G : GE} (hm : KM m) (h0 : de < 65536) : RL G a f bc de hl ix sp 1251 m P = RL G (de % 256) f bc de hl ix sp 1252 m P := by
  have e := fun (h0 : de < 65536) => rl_7B (pc := 1251) (kb_1251 hm) (by decide) (a := a) (f := f) (bc := bc) (de := de) (hl := hl) (ix := ix) (sp := sp) (P := P) (G := G) h0
  try simp (config := {decide := false}) only [wd, jr, Nat.reduceAdd, Nat.reduceMul, Nat.reduceMod, Nat.reduceDiv, Nat.reduceLT, Nat.reduceSub, ↓reduceIte, forall_const, true_implies] at e
  exact e h0
theorem k_1252 {a bc de hl ix sp : Nat} {f : Int32} {m : Nat → Nat} {P : PT} {G : GE} (hm : KM m) (h0 : a < 256) : RL G a f bc de hl ix sp 1252 m P = RL G a (fMi a 41 0) bc de hl ix sp 1254 m P := by
  have e := fun (h0 : a < 256) => rl_FE (pc := 1252) (kb_1252 hm) (by decide) (a := a) (f := f) (bc := bc) (de := de) (hl := hl) (ix := ix) (sp := sp) (P := P) (G := G) h0
  try simp (config := {decide := false}) only [wd, jr, Nat.reduceAdd, Nat.reduceMul, Nat.reduceMod, Nat.reduceDiv, Nat.reduceLT, Nat.reduceSub, ↓reduceIte, forall_const, true_implies, kb_1253 hm] at e
  exact e h0
theorem k_1254 {a bc de hl ix sp : Nat} {f : Int32} {m : Nat → Nat} {P : PT} {G : GE} (hm : KM m)  : RL G a f bc de hl ix sp 1254 m P = if ¬ cC f then RL G a f bc de hl ix sp 67 m P else RL G a f bc de hl ix sp 1257 m P := by
  have e := fun (_ : True) => rl_D2 (pc := 1254) (kb_1254 hm) (by decide) (a := a) (f := f) (bc := bc) (de := de) (hl := hl) (ix := ix) (sp := sp) (P := P) (G := G) 
  try simp (config := {decide := false}) only [wd, jr, Nat.reduceAdd, Nat.reduceMul, Nat.reduceMod, Nat.reduceDiv, Nat.reduceLT, Nat.reduceSub, ↓reduceIte, forall_const, true_implies, kb_1255 hm, kb_1256 hm] at e
  exact e 
theorem k_1257 {a bc de hl ix sp : Nat} {f : Int32} {m : Nat → Nat} {P : PT} {G : GE} (hm : KM m) (h0 : a < 256) : RL G a f bc de hl ix sp 1257 m P = RL G a f bc de hl ix sp 1260 (up m 242 a) P := by
  have e := fun (h0 : a < 256) => rl_32 (pc := 1257) (kb_1257 hm) (by decide) (a := a) (f := f) (bc := bc) (de := de) (hl := hl) (ix := ix) (sp := sp) (P := P) (G := G) h0
  try simp (config := {decide := false}) only [wd, jr, Nat.reduceAdd, Nat.reduceMul, Nat.reduceMod, Nat.reduceDiv, Nat.reduceLT, Nat.reduceSub, ↓reduceIte, forall_const, true_implies, kb_1258 hm, kb_1259 hm] at e
  exact e h0
theorem k_1260 {a bc de hl ix sp : Nat} {f : Int32} {m : Nat → Nat} {P : PT} {G : GE} (hm : KM m) (h0 : bc < 65536) : RL G a f bc de hl ix sp 1260 m P = RL G a f (0 * 256 + bc % 256) de hl ix sp 1262 m P := by
  have e := fun (h0 : bc < 65536) => rl_06 (pc := 1260) (kb_1260 hm) (by decide) (a := a) (f := f) (bc := bc) (de := de) (hl := hl) (ix := ix) (sp := sp) (P := P) (G := G) h0
  try simp (config := {decide := false}) only [wd, jr, Nat.reduceAdd, Nat.reduceMul, Nat.reduceMod, Nat.reduceDiv, Nat.reduceLT, Nat.reduceSub, ↓reduceIte, forall_const, true_implies, kb_1261 hm] at e
  exact e h0
theorem k_1262 {a bc de hl ix sp : Nat} {f : Int32} {m : Nat → Nat} {P : PT} {G : GE} (hm : KM m) (h0 : 2 ≤ sp) (h1 : sp < 65536) (h2 : bc < 65536) : RL G a f bc de hl ix sp 1262 m P = RL G a f bc de hl ix (sp - 2) 1263 (up (up m (sp - 1) (bc / 256)) (sp - 2) bc) P := by
  have e := fun (h0 : 2 ≤ sp) (h1 : sp < 65536) (h2 : bc < 65536) => rl_C5 (pc := 1262) (kb_1262 hm) (by decide) (a := a) (f := f) (bc := bc) (de := de) (hl := hl) (ix := ix) (sp := sp) (P := P) (G := G) h0 h1 h2
  try simp (config := {decide := false}) only [wd, jr, Nat.reduceAdd, Nat.reduceMul, Nat.reduceMod, Nat.reduceDiv, Nat.reduceLT, Nat.reduceSub, ↓reduceIte, forall_const, true_implies] at e
  exact e h0 h1 h2
theorem k_1263 {a bc de hl ix sp : Nat} {f : Int32} {m : Nat → Nat} {P : PT} {G : GE} (hm : KM m)  : RL G a f bc de hl ix sp 1263 m P = RL G a f bc 10 hl ix sp 1266 m P := by
  have e := fun (_ : True) => rl_11 (pc := 1263) (kb_1263 hm) (by decide) (a := a) (f := f) (bc := bc) (de := de) (hl := hl) (ix := ix) (sp := sp) (P := P) (G := G) 
  try simp (config := {decide := false}) only [wd, jr, Nat.reduceAdd, Nat.reduceMul, Nat.reduceMod, Nat.reduceDiv, Nat.reduceLT, Nat.reduceSub, ↓reduceIte, forall_const, true_implies, kb_1264 hm, kb_1265 hm] at e
  exact e 
theorem k_1266 {a bc de hl ix sp : Nat} {f : Int32} {m : Nat → Nat} {P : PT} {G : GE} (hm : KM m) (h0 : 2 ≤ sp) (h1 : sp < 65536) : RL G a f bc de hl ix sp 1266 m P = RL G a f bc de hl ix (sp - 2) 1601 (up (up m (sp - 1) 4) (sp - 2) 1269) P := by
  have e := fun (h0 : 2 ≤ sp) (h1 : sp < 65536) => rl_CD (pc := 1266) (kb_1266 hm) (by decide) (a := a) (f := f) (bc := bc) (de := de) (hl := hl) (ix := ix) (sp := sp) (P := P) (G := G) h0 h1
  try simp (config := {decide := false}) only [wd, jr, Nat.reduceAdd, Nat.reduceMul, Nat.reduceMod, Nat.reduceDiv, Nat.reduceLT, Nat.reduceSub, ↓reduceIte, forall_const, true_implies, kb_1267 hm, kb_1268 hm] at e
  exact e h0 h1
theorem k_1269 {a bc de hl ix sp : Nat} {f : Int32} {m : Nat → Nat} {P : PT} {G : GE} (hm : KM m) (h0 : hl < 65536) : RL G a f bc de hl ix sp 1269 m P = RL G (hl % 256) f bc de hl ix sp 1270 m P := by
  have e := fun (h0 : hl < 65536) => rl_7D (pc := 1269) (kb_1269 hm) (by decide) (a := a) (f := f) (bc := bc) (de := de) (hl := hl) (ix := ix) (sp := sp) (P := P) (G := G) h0
  try simp (config := {decide := false}) only [wd, jr, Nat.reduceAdd, Nat.reduceMul, Nat.reduceMod, Nat.reduceDiv, Nat.reduceLT, Nat.reduceSub, ↓reduceIte, forall_const, true_implies] at e
  exact e h0
theorem k_1270 {a bc de hl ix sp : Nat} {f : Int32} {m : Nat → Nat} {P : PT} {G : GE} (hm : KM m) (h0 : bc < 65536) (h1 : hl < 65536) : RL G a f bc de hl ix sp 1270 m P = RL G a f bc de ((bc / 256) * 256 + hl % 256) ix sp 1271 m P := by
  have e := fun (h0 : bc < 65536) (h1 : hl < 65536) => rl_60 (pc := 1270) (kb_1270 hm) (by decide) (a := a) (f := f) (bc := bc) (de := de) (hl := hl) (ix := ix) (sp := sp) (P := P) (G := G) h0 h1
  try simp (config := {decide := false}) only [wd, jr, Nat.reduceAdd, Nat.reduceMul, Nat.reduceMod, Nat.reduceDiv, Nat.reduceLT, Nat.reduceSub, ↓reduceIte, forall_const, true_implies] at e
  exact e h0 h1
theorem k_1271 {a bc de hl ix sp : Nat} {f : Int32} {m : Nat → Nat} {P : PT} {G : GE} (hm : KM m) (h0 : bc < 65536) (h1 : hl < 65536) : RL G a f bc de hl ix sp 1271 m P = RL G a f bc de (hl / 256 * 256 + (bc % 256)) ix sp 1272 m P := by
  have e := fun (h0 : bc < 65536) (h1 : hl < 65536) => rl_69 (pc := 1271) (kb_1271 hm) (by decide) (a := a) (f := f) (bc := bc) (de := de) (hl := hl) (ix := ix) (sp := sp) (P := P) (G := G) h0 h1
  try simp (config := {decide := false}) only [wd, jr, Nat.reduceAdd, Nat.reduceMul, Nat.reduceMod, Nat.reduceDiv, Nat.reduceLT, Nat.reduceSub, ↓reduceIte, forall_const, true_implies] at e
  exact e h0 h1
theorem k_1272 {a bc de hl ix sp : Nat} {f : Int32} {m : Nat → Nat} {P : PT} {G : GE} (hm : KM m) (h0 : sp + 2 < 65536) : RL G a f bc de hl ix sp 1272 m P = RL G a f (wd m sp) de hl ix (sp + 2) 1273 m P := by
  have e := fun (h0 : sp + 2 < 65536) => rl_C1 (pc := 1272) (kb_1272 hm) (by decide) (a := a) (f := f) (bc := bc) (de := de) (hl := hl) (ix := ix) (sp := sp) (P := P) (G := G) h0
  try simp (config := {decide := false}) only [wd, jr, Nat.reduceAdd, Nat.reduceMul, Nat.reduceMod, Nat.reduceDiv, Nat.reduceLT, Nat.reduceSub, ↓reduceIte, forall_const, true_implies] at e
  exact e h0
theorem k_1273 {a bc de hl ix sp : Nat} {f : Int32} {m : Nat → Nat} {P : PT} {G : GE} (hm : KM m) (h0 : 2 ≤ sp) (h1 : sp < 65536) (h2 : a < 256) (h3 : f &&& 255 = f) : RL G a f bc de hl ix sp 1273 m P = RL G a f bc de hl ix (sp - 2) 1274 (up (up m (sp - 1) ((a * 256 + fB f) / 256)) (sp - 2) (a * 256 + fB f)) P := by
  have e := fun (h0 : 2 ≤ sp) (h1 : sp < 65536) (h2 : a < 256) (h3 : f &&& 255 = f) => rl_F5 (pc := 1273) (kb_1273 hm) (by decide) (a := a) (f := f) (bc := bc) (de := de) (hl := hl) (ix := ix) (sp := sp) (P := P) (G := G) h0 h1 h2 h3
  try simp (config := {decide := false}) only [wd, jr, Nat.reduceAdd, Nat.reduceMul, Nat.reduceMod, Nat.reduceDiv, Nat.reduceLT, Nat.reduceSub, ↓reduceIte, forall_const, true_implies] at e
  exact e h0 h1 h2 h3
theorem k_1274 {a bc de hl ix sp : Nat} {f : Int32} {m : Nat → Nat} {P : PT} {G : GE} (hm : KM m) (h0 : bc < 65536) : RL G a f bc de hl ix sp 1274 m P = RL G a (fInc f (bc / 256)) ((((bc / 256) + 1) % 256) * 256 + bc % 256) de hl ix sp 1275 m P := by
  have e := fun (h0 : bc < 65536) => rl_04 (pc := 1274) (kb_1274 hm) (by decide) (a := a) (f := f) (bc := bc) (de := de) (hl := hl) (ix := ix) (sp := sp) (P := P) (G := G) h0
  try simp (config := {decide := false}) only [wd, jr, Nat.reduceAdd, Nat.reduceMul, Nat.reduceMod, Nat.reduceDiv, Nat.reduceLT, Nat.reduceSub, ↓reduceIte, forall_const, true_implies] at e
  exact e h0
theorem k_1275 {a bc de hl ix sp : Nat} {f : Int32} {m : Nat → Nat} {P : PT} {G : GE} (hm : KM m) (h0 : hl < 65536) : RL G a f bc de hl ix sp 1275 m P = RL G (hl / 256) f bc de hl ix sp 1276 m P := by
  have e := fun (h0 : hl < 65536) => rl_7C (pc := 1275) (kb_1275 hm) (by decide) (a := a) (f := f) (bc := bc) (de := de) (hl := hl) (ix := ix) (sp := sp) (P := P) (G := G) h0
  try simp (config := {decide := false}) only [wd, jr, Nat.reduceAdd, Nat.reduceMul, Nat.reduceMod, Nat.reduceDiv, Nat.reduceLT, Nat.reduceSub, ↓reduceIte, forall_const, true_implies] at e
  exact e h0
theorem k_1276 {a bc de hl ix sp : Nat} {f : Int32} {m : Nat → Nat} {P : PT} {G : GE} (hm : KM m) (h0 : a < 256) (h1 : hl < 65536) : RL G a f bc de hl ix sp 1276 m P = RL G (a ||| (hl % 256)) (fLo (a ||| (hl % 256)) false) bc de hl ix sp 1277 m P := by
  have e := fun (h0 : a < 256) (h1 : hl < 65536) => rl_B5 (pc := 1276) (kb_1276 hm) (by decide) (a := a) (f := f) (bc := bc) (de := de) (hl := hl) (ix := ix) (sp := sp) (P := P) (G := G) h0 h1
  try simp (config := {decide := false}) only [wd, jr, Nat.reduceAdd, Nat.reduceMul, Nat.reduceMod, Nat.reduceDiv, Nat.reduceLT, Nat.reduceSub, ↓reduceIte, forall_const, true_implies] at e
  exact e h0 h1
theorem k_1277 {a bc de hl ix sp : Nat} {f : Int32} {m : Nat → Nat} {P : PT} {G : GE} (hm : KM m)  : RL G a f bc de hl ix sp 1277 m P = if ¬ cZ f then RL G a f bc de hl ix sp 1262 m P else RL G a f bc de hl ix sp 1279 m P := by
  have e := fun (_ : True) => rl_20 (pc := 1277) (kb_1277 hm) (by decide) (a := a) (f := f) (bc := bc) (de := de) (hl := hl) (ix := ix) (sp := sp) (P := P) (G := G) 
  try simp (config := {decide := false}) only [wd, jr, Nat.reduceAdd, Nat.reduceMul, Nat.reduceMod, Nat.reduceDiv, Nat.reduceLT, Nat.reduceSub, ↓reduceIte, forall_const, true_implies, kb_1278 hm] at e
  exact e 
theorem k_1279 {a bc de hl ix sp : Nat} {f : Int32} {m : Nat → Nat} {P : PT} {G : GE} (hm : KM m)  : RL G a f bc de hl ix sp 1279 m P = RL G (rd m 243) f bc de hl ix sp 1282 m P := by
  have e := fun (_ : True) => rl_3A (pc := 1279) (kb_1279 hm) (by decide) (a := a) (f := f) (bc := bc) (de := de) (hl := hl) (ix := ix) (sp := sp) (P := P) (G := G) 
  try simp (config := {decide := false}) only [wd, jr, Nat.reduceAdd, Nat.reduceMul, Nat.reduceMod, Nat.reduceDiv, Nat.reduceLT, Nat.reduceSub, ↓reduceIte, forall_const, true_implies, kb_1280 hm, kb_1281 hm] at e
  exact e 
theorem k_1282 {a bc de hl ix sp : Nat} {f : Int32} {m : Nat → Nat} {P : PT} {G : GE} (hm : KM m) (h0 : a < 256) (h1 : bc < 65536) : RL G a f bc de hl ix sp 1282 m P = RL G ((a + (bc / 256)) % 256) (fPl a (bc / 256) 0) bc de hl ix sp 1283 m P := by
  have e := fun (h0 : a < 256) (h1 : bc < 65536) => rl_80 (pc := 1282) (kb_1282 hm) (by decide) (a := a) (f := f) (bc := bc) (de := de) (hl := hl) (ix := ix) (sp := sp) (P := P) (G := G) h0 h1
  try simp (config := {decide := false}) only [wd, jr, Nat.reduceAdd, Nat.reduceMul, Nat.reduceMod, Nat.reduceDiv, Nat.reduceLT, Nat.reduceSub, ↓reduceIte, forall_const, true_implies] at e
  exact e h0 h1
theorem k_1283 {a bc de hl ix sp : Nat} {f : Int32} {m : Nat → Nat} {P : PT} {G : GE} (hm : KM m) (h0 : a < 256) (h1 : bc < 65536) : RL G a f bc de hl ix sp 1283 m P = RL G a f (bc / 256 * 256 + a) de hl ix sp 1284 m P := by
  have e := fun (h0 : a < 256) (h1 : bc < 65536) => rl_4F (pc := 1283) (kb_1283 hm) (by decide) (a := a) (f := f) (bc := bc) (de := de) (hl := hl) (ix := ix) (sp := sp) (P := P) (G := G) h0 h1
  try simp (config := {decide := false}) only [wd, jr, Nat.reduceAdd, Nat.reduceMul, Nat.reduceMod, Nat.reduceDiv, Nat.reduceLT, Nat.reduceSub, ↓reduceIte, forall_const, true_implies] at e
  exact e h0 h1
theorem k_1284 {a bc de hl ix sp : Nat} {f : Int32} {m : Nat → Nat} {P : PT} {G : GE} (hm : KM m)  : RL G a f bc de hl ix sp 1284 m P = RL G (rd m 242) f bc de hl ix sp 1287 m P := by
  have e := fun (_ : True) => rl_3A (pc := 1284) (kb_1284 hm) (by decide) (a := a) (f := f) (bc := bc) (de := de) (hl := hl) (ix := ix) (sp := sp) (P := P) (G := G) 
  try simp (config := {decide := false}) only [wd, jr, Nat.reduceAdd, Nat.reduceMul, Nat.reduceMod, Nat.reduceDiv, Nat.reduceLT, Nat.reduceSub, ↓reduceIte, forall_const, true_implies, kb_1285 hm, kb_1286 hm] at e
  exact e 
theorem k_1287 {a bc de hl ix sp : Nat} {f : Int32} {m : Nat → Nat} {P : PT} {G : GE} (hm : KM m) (h0 : a < 256) (h1 : bc < 65536) : RL G a f bc de hl ix sp 1287 m P = RL G ((a + 256 - (bc % 256)) % 256) (fMi a (bc % 256) 0) bc de hl ix sp 1288 m P := by
  have e := fun (h0 : a < 256) (h1 : bc < 65536) => rl_91 (pc := 1287) (kb_1287 hm) (by decide) (a := a) (f := f) (bc := bc) (de := de) (hl := hl) (ix := ix) (sp := sp) (P := P) (G := G) h0 h1
  try simp (config := {decide := false}) only [wd, jr, Nat.reduceAdd, Nat.reduceMul, Nat.reduceMod, Nat.reduceDiv, Nat.reduceLT, Nat.reduceSub, ↓reduceIte, forall_const, true_implies] at e
  exact e h0 h1
theorem k_1288 {a bc de hl ix sp : Nat} {f : Int32} {m : Nat → Nat} {P : PT} {G : GE} (hm : KM m)  : RL G a f bc de hl ix sp 1288 m P = if cC f then RL G a f bc de hl ix sp 1300 m P else RL G a f bc de hl ix sp 1290 m P := by
  have e := fun (_ : True) => rl_38 (pc := 1288) (kb_1288 hm) (by decide) (a := a) (f := f) (bc := bc) (de := de) (hl := hl) (ix := ix) (sp := sp) (P := P) (G := G) 
  try simp (config := {decide := false}) only [wd, jr, Nat.reduceAdd, Nat.reduceMul, Nat.reduceMod, Nat.reduceDiv, Nat.reduceLT, Nat.reduceSub, ↓reduceIte, forall_const, true_implies, kb_1289 hm] at e
  exact e 
theorem k_1290 {a bc de hl ix sp : Nat} {f : Int32} {m : Nat → Nat} {P : PT} {G : GE} (hm : KM m)  : RL G a f bc de hl ix sp 1290 m P = if cZ f then RL G a f bc de hl ix sp 1300 m P else RL G a f bc de hl ix sp 1292 m P := by
  have e := fun (_ : True) => rl_28 (pc := 1290) (kb_1290 hm) (by decide) (a := a) (f := f) (bc := bc) (de := de) (hl := hl) (ix := ix) (sp := sp) (P := P) (G := G) 
  try simp (config := {decide := false}) only [wd, jr, Nat.reduceAdd, Nat.reduceMul, Nat.reduceMod, Nat.reduceDiv, Nat.reduceLT, Nat.reduceSub, ↓reduceIte, forall_const, true_implies, kb_1291 hm] at e
  exact e 
theorem k_1292 {a bc de hl ix sp : Nat} {f : Int32} {m : Nat → Nat} {P : PT} {G : GE} (hm : KM m) (h0 : a < 256) (h1 : bc < 65536) : RL G a f bc de hl ix sp 1292 m P = RL G a f (bc / 256 * 256 + a) de hl ix sp 1293 m P := by
  have e := fun (h0 : a < 256) (h1 : bc < 65536) => rl_4F (pc := 1292) (kb_1292 hm) (by decide) (a := a) (f := f) (bc := bc) (de := de) (hl := hl) (ix := ix) (sp := sp) (P := P) (G := G) h0 h1
  try simp (config := {decide := false}) only [wd, jr, Nat.reduceAdd, Nat.reduceMul, Nat.reduceMod, Nat.reduceDiv, Nat.reduceLT, Nat.reduceSub, ↓reduceIte, forall_const, true_implies] at e
  exact e h0 h1
theorem k_1293 {a bc de hl ix sp : Nat} {f : Int32} {m : Nat → Nat} {P : PT} {G : GE} (hm : KM m)  : RL G a f bc de hl ix sp 1293 m P = RL G 32 f bc de hl ix sp 1295 m P := by
  have e := fun (_ : True) => rl_3E (pc := 1293) (kb_1293 hm) (by decide) (a := a) (f := f) (bc := bc) (de := de) (hl := hl) (ix := ix) (sp := sp) (P := P) (G := G) 
  try simp (config := {decide := false}) only [wd, jr, Nat.reduceAdd, Nat.reduceMul, Nat.reduceMod, Nat.reduceDiv, Nat.reduceLT, Nat.reduceSub, ↓reduceIte, forall_const, true_implies, kb_1294 hm] at e
  exact e 
theorem k_1297 {a bc de hl ix sp : Nat} {f : Int32} {m : Nat → Nat} {P : PT} {G : GE} (hm : KM m) (h0 : bc < 65536) : RL G a f bc de hl ix sp 1297 m P = RL G a (fDec f (bc % 256)) (bc / 256 * 256 + (((bc % 256) + 255) % 256)) de hl ix sp 1298 m P := by
  have e := fun (h0 : bc < 65536) => rl_0D (pc := 1297) (kb_1297 hm) (by decide) (a := a) (f := f) (bc := bc) (de := de) (hl := hl) (ix := ix) (sp := sp) (P := P) (G := G) h0
  try simp (config := {decide := false}) only [wd, jr, Nat.reduceAdd, Nat.reduceMul, Nat.reduceMod, Nat.reduceDiv, Nat.reduceLT, Nat.reduceSub, ↓reduceIte, forall_const, true_implies] at e
  exact e h0
theorem k_1298 {a bc de hl ix sp : Nat} {f : Int32} {m : Nat → Nat} {P : PT} {G : GE} (hm : KM m)  : RL G a f bc de hl ix sp 1298 m P = if ¬ cZ f then RL G a f bc de hl ix sp 1293 m P else RL G a f bc de hl ix sp 1300 m P := by
  have e := fun (_ : True) => rl_20 (pc := 1298) (kb_1298 hm) (by decide) (a := a) (f := f) (bc := bc) (de := de) (hl := hl) (ix := ix) (sp := sp) (P := P) (G := G) 
  try simp (config := {decide := false}) only [wd, jr, Nat.reduceAdd, Nat.reduceMul, Nat.reduceMod, Nat.reduceDiv, Nat.reduceLT, Nat.reduceSub, ↓reduceIte, forall_const, true_implies, kb_1299 hm] at e
  exact e 
theorem k_1300 {a bc de hl ix sp : Nat} {f : Int32} {m : Nat → Nat} {P : PT} {G : GE} (hm : KM m)  : RL G a f bc de hl ix sp 1300 m P = RL G (rd m 243) f bc de hl ix sp 1303 m P := by
  have e := fun (_ : True) => rl_3A (pc := 1300) (kb_1300 hm) (by decide) (a := a) (f := f) (bc := bc) (de := de) (hl := hl) (ix := ix) (sp := sp) (P := P) (G := G) 
  try simp (config := {decide := false}) only [wd, jr, Nat.reduceAdd, Nat.reduceMul, Nat.reduceMod, Nat.reduceDiv, Nat.reduceLT, Nat.reduceSub, ↓reduceIte, forall_const, true_implies, kb_1301 hm, kb_1302 hm] at e
  exact e 
theorem k_1303 {a bc de hl ix sp : Nat} {f : Int32} {m : Nat → Nat} {P : PT} {G : GE} (hm : KM m) (h0 : a < 256) : RL G a f bc de hl ix sp 1303 m P = RL G (a ||| a) (fLo (a ||| a) false) bc de hl ix sp 1304 m P := by
  have e := fun (h0 : a < 256) => rl_B7 (pc := 1303) (kb_1303 hm) (by decide) (a := a) (f := f) (bc := bc) (de := de) (hl := hl) (ix := ix) (sp := sp) (P := P) (G := G) h0
  try simp (config := {decide := false}) only [wd, jr, Nat.reduceAdd, Nat.reduceMul, Nat.reduceMod, Nat.reduceDiv, Nat.reduceLT, Nat.reduceSub, ↓reduceIte, forall_const, true_implies] at e
  exact e h0
theorem k_1304 {a bc de hl ix sp : Nat} {f : Int32} {m : Nat → Nat} {P : PT} {G : GE} (hm : KM m)  : RL G a f bc de hl ix sp 1304 m P = if cZ f then RL G a f bc de hl ix sp 1310 m P else RL G a f bc de hl ix sp 1306 m P := by
  have e := fun (_ : True) => rl_28 (pc := 1304) (kb_1304 hm) (by decide) (a := a) (f := f) (bc := bc) (de := de) (hl := hl) (ix := ix) (sp := sp) (P := P) (G := G) 
  try simp (config := {decide := false}) only [wd, jr, Nat.reduceAdd, Nat.reduceMul, Nat.reduceMod, Nat.reduceDiv, Nat.reduceLT, Nat.reduceSub, ↓reduceIte, forall_const, true_implies, kb_1305 hm] at e
  exact e 
theorem k_1306 {a bc de hl ix sp : Nat} {f : Int32} {m : Nat → Nat} {P : PT} {G : GE} (hm : KM m)  : RL G a f bc de hl ix sp 1306 m P = RL G 45 f bc de hl ix sp 1308 m P := by
  have e := fun (_ : True) => rl_3E (pc := 1306) (kb_1306 hm) (by decide) (a := a) (f := f) (bc := bc) (de := de) (hl := hl) (ix := ix) (sp := sp) (P := P) (G := G) 
  try simp (config := {decide := false}) only [wd, jr, Nat.reduceAdd, Nat.reduceMul, Nat.reduceMod, Nat.reduceDiv, Nat.reduceLT, Nat.reduceSub, ↓reduceIte, forall_const, true_implies, kb_1307 hm] at e
  exact e 
theorem k_1310 {a bc de hl ix sp : Nat} {f : Int32} {m : Nat → Nat} {P : PT} {G : GE} (hm : KM m) (h0 : sp + 2 < 65536) : RL G a f bc de hl ix sp 1310 m P = RL G (rd m (sp + 1)) (Int32.ofNat (rd m sp)) bc de hl ix (sp + 2) 1311 m P := by
  have e := fun (h0 : sp + 2 < 65536) => rl_F1 (pc := 1310) (kb_1310 hm) (by decide) (a := a) (f := f) (bc := bc) (de := de) (hl := hl) (ix := ix) (sp := sp) (P := P) (G := G) h0
  try simp (config := {decide := false}) only [wd, jr, Nat.reduceAdd, Nat.reduceMul, Nat.reduceMod, Nat.reduceDiv, Nat.reduceLT, Nat.reduceSub, ↓reduceIte, forall_const, true_implies] at e
  exact e h0
theorem k_1311 {a bc de hl ix sp : Nat} {f : Int32} {m : Nat → Nat} {P : PT} {G : GE} (hm : KM m) (h0 : a < 256) : RL G a f bc de hl ix sp 1311 m P = RL G ((a + 48) % 256) (fPl a 48 0) bc de hl ix sp 1313 m P := by
  have e := fun (h0 : a < 256) => rl_C6 (pc := 1311) (kb_1311 hm) (by decide) (a := a) (f := f) (bc := bc) (de := de) (hl := hl) (ix := ix) (sp := sp) (P := P) (G := G) h0
  try simp (config := {decide := false}) only [wd, jr, Nat.reduceAdd, Nat.reduceMul, Nat.reduceMod, Nat.reduceDiv, Nat.reduceLT, Nat.reduceSub, ↓reduceIte, forall_const, true_implies, kb_1312 hm] at e
  exact e h0
theorem k_1315 {a bc de hl ix sp : Nat} {f : Int32} {m : Nat → Nat} {P : PT} {G : GE} (hm : KM m) (h0 : bc < 65536) : RL G a f bc de hl ix sp 1315 m P = if ¬ (bc / 256 + 255) % 256 = 0 then RL G a f (((bc / 256 + 255) % 256) * 256 + bc % 256) de hl ix sp 1310 m P else RL G a f (((bc / 256 + 255) % 256) * 256 + bc % 256) de hl ix sp 1317 m P := by
  have e := fun (h0 : bc < 65536) => rl_10 (pc := 1315) (kb_1315 hm) (by decide) (a := a) (f := f) (bc := bc) (de := de) (hl := hl) (ix := ix) (sp := sp) (P := P) (G := G) h0
  try simp (config := {decide := false}) only [wd, jr, Nat.reduceAdd, Nat.reduceMul, Nat.reduceMod, Nat.reduceDiv, Nat.reduceLT, Nat.reduceSub, ↓reduceIte, forall_const, true_implies, kb_1316 hm] at e
  exact e h0
theorem k_1317 {a bc de hl ix sp : Nat} {f : Int32} {m : Nat → Nat} {P : PT} {G : GE} (hm : KM m) (h0 : sp + 2 < 65536) : RL G a f bc de hl ix sp 1317 m P = RL G a f bc de hl ix (sp + 2) (wd m sp) m P := by
  have e := fun (h0 : sp + 2 < 65536) => rl_C9 (pc := 1317) (kb_1317 hm) (by decide) (a := a) (f := f) (bc := bc) (de := de) (hl := hl) (ix := ix) (sp := sp) (P := P) (G := G) h0
  try simp (config := {decide := false}) only [wd, jr, Nat.reduceAdd, Nat.reduceMul, Nat.reduceMod, Nat.reduceDiv, Nat.reduceLT, Nat.reduceSub, ↓reduceIte, forall_const, true_implies] at e
  exact e h0
theorem k_1318 {a bc de hl ix sp : Nat} {f : Int32} {m : Nat → Nat} {P : PT} {G : GE} (hm : KM m) (h0 : a < 256) : RL G a f bc de hl ix sp 1318 m P = RL G (a ^^^ a) (fLo (a ^^^ a) false) bc de hl ix sp 1319 m P := by
  have e := fun (h0 : a < 256) => rl_AF (pc := 1318) (kb_1318 hm) (by decide) (a := a) (f := f) (bc := bc) (de := de) (hl := hl) (ix := ix) (sp := sp) (P := P) (G := G) h0
  try simp (config := {decide := false}) only [wd, jr, Nat.reduceAdd, Nat.reduceMul, Nat.reduceMod, Nat.reduceDiv, Nat.reduceLT, Nat.reduceSub, ↓reduceIte, forall_const, true_implies] at e
  exact e h0
theorem k_1319 {a bc de hl ix sp : Nat} {f : Int32} {m : Nat → Nat} {P : PT} {G : GE} (hm : KM m) (h0 : hl < 65536) : RL G a f bc de hl ix sp 1319 m P = RL G a (fBit f (hl / 256)) bc de hl ix sp 1321 m P := by
  have e := fun (h0 : hl < 65536) => rl_CB7C (pc := 1319) (kb_1319 hm) (kb_1320 hm) (by decide) (a := a) (f := f) (bc := bc) (de := de) (hl := hl) (ix := ix) (sp := sp) (P := P) (G := G) h0
  try simp (config := {decide := false}) only [wd, jr, Nat.reduceAdd, Nat.reduceMul, Nat.reduceMod, Nat.reduceDiv, Nat.reduceLT, Nat.reduceSub, ↓reduceIte, forall_const, true_implies] at e
  exact e h0
theorem k_1321 {a bc de hl ix sp : Nat} {f : Int32} {m : Nat → Nat} {P : PT} {G : GE} (hm : KM m)  : RL G a f bc de hl ix sp 1321 m P = if cZ f then RL G a f bc de hl ix sp 1330 m P else RL G a f bc de hl ix sp 1323 m P := by
  have e := fun (_ : True) => rl_28 (pc := 1321) (kb_1321 hm) (by decide) (a := a) (f := f) (bc := bc) (de := de) (hl := hl) (ix := ix) (sp := sp) (P := P) (G := G) 
  try simp (config := {decide := false}) only [wd, jr, Nat.reduceAdd, Nat.reduceMul, Nat.reduceMod, Nat.reduceDiv, Nat.reduceLT, Nat.reduceSub, ↓reduceIte, forall_const, true_implies, kb_1322 hm] at e
  exact e 
theorem k_1323 {a bc de hl ix sp : Nat} {f : Int32} {m : Nat → Nat} {P : PT} {G : GE} (hm : KM m) (h0 : 2 ≤ sp) (h1 : sp < 65536) (h2 : de < 65536) : RL G a f bc de hl ix sp 1323 m P = RL G a f bc de hl ix (sp - 2) 1324 (up (up m (sp - 1) (de / 256)) (sp - 2) de) P := by
  have e := fun (h0 : 2 ≤ sp) (h1 : sp < 65536) (h2 : de < 65536) => rl_D5 (pc := 1323) (kb_1323 hm) (by decide) (a := a) (f := f) (bc := bc) (de := de) (hl := hl) (ix := ix) (sp := sp) (P := P) (G := G) h0 h1 h2
  try simp (config := {decide := false}) only [wd, jr, Nat.reduceAdd, Nat.reduceMul, Nat.reduceMod, Nat.reduceDiv, Nat.reduceLT, Nat.reduceSub, ↓reduceIte, forall_const, true_implies] at e
  exact e h0 h1 h2
theorem k_1324 {a bc de hl ix sp : Nat} {f : Int32} {m : Nat → Nat} {P : PT} {G : GE} (hm : KM m) (h0 : 2 ≤ sp) (h1 : sp < 65536) : RL G a f bc de hl ix sp 1324 m P = RL G a f bc de hl ix (sp - 2) 1591 (up (up m (sp - 1) 5) (sp - 2) 1327) P := by
  have e := fun (h0 : 2 ≤ sp) (h1 : sp < 65536) => rl_CD (pc := 1324) (kb_1324 hm) (by decide) (a := a) (f := f) (bc := bc) (de := de) (hl := hl) (ix := ix) (sp := sp) (P := P) (G := G) h0 h1
  try simp (config := {decide := false}) only [wd, jr, Nat.reduceAdd, Nat.reduceMul, Nat.reduceMod, Nat.reduceDiv, Nat.reduceLT, Nat.reduceSub, ↓reduceIte, forall_const, true_implies, kb_1325 hm, kb_1326 hm] at e
  exact e h0 h1
theorem k_1327 {a bc de hl ix sp : Nat} {f : Int32} {m : Nat → Nat} {P : PT} {G : GE} (hm : KM m) (h0 : sp + 2 < 65536) : RL G a f bc de hl ix sp 1327 m P = RL G a f bc (wd m sp) hl ix (sp + 2) 1328 m P := by
  have e := fun (h0 : sp + 2 < 65536) => rl_D1 (pc := 1327) (kb_1327 hm) (by decide) (a := a) (f := f) (bc := bc) (de := de) (hl := hl) (ix := ix) (sp := sp) (P := P) (G := G) h0
  try simp (config := {decide := false}) only [wd, jr, Nat.reduceAdd, Nat.reduceMul, Nat.reduceMod, Nat.reduceDiv, Nat.reduceLT, Nat.reduceSub, ↓reduceIte, forall_const, true_implies] at e
  exact e h0
theorem k_1328 {a bc de hl ix sp : Nat} {f : Int32} {m : Nat → Nat} {P : PT} {G : GE} (hm : KM m)  : RL G a f bc de hl ix sp 1328 m P = RL G 1 f bc de hl ix sp 1330 m P := by
  have e := fun (_ : True) => rl_3E (pc := 1328) (kb_1328 hm) (by decide) (a := a) (f := f) (bc := bc) (de := de) (hl := hl) (ix := ix) (sp := sp) (P := P) (G := G) 
  try simp (config := {decide := false}) only [wd, jr, Nat.reduceAdd, Nat.reduceMul, Nat.reduceMod, Nat.reduceDiv, Nat.reduceLT, Nat.reduceSub, ↓reduceIte, forall_const, true_implies, kb_1329 hm] at e
  exact e 
theorem k_1330 {a bc de hl ix sp : Nat} {f : Int32} {m : Nat → Nat} {P : PT} {G : GE} (hm : KM m) (h0 : a < 256) : RL G a f bc de hl ix sp 1330 m P = RL G a f bc de hl ix sp 1333 (up m 243 a) P := by
  have e := fun (h0 : a < 256) => rl_32 (pc := 1330) (kb_1330 hm) (by decide) (a := a) (f := f) (bc := bc) (de := de) (hl := hl) (ix := ix) (sp := sp) (P := P) (G := G) h0
  try simp (config := {decide := false}) only [wd, jr, Nat.reduceAdd, Nat.reduceMul, Nat.reduceMod, Nat.reduceDiv, Nat.reduceLT, Nat.reduceSub, ↓reduceIte, forall_const, true_implies, kb_1331 hm, kb_1332 hm] at e
  exact e h0
theorem k_1333 {a bc de hl ix sp : Nat} {f : Int32} {m : Nat → Nat} {P : PT} {G : GE} (hm : KM m)  : RL G a f bc de hl ix sp 1333 m P = RL G a f bc de hl ix sp 1246 m P := by
  have e := fun (_ : True) => rl_C3 (pc := 1333) (kb_1333 hm) (by decide) (a := a) (f := f) (bc := bc) (de := de) (hl := hl) (ix := ix) (sp := sp) (P := P) (G := G) 
  try simp (config := {decide := false}) only [wd, jr, Nat.reduceAdd, Nat.reduceMul, Nat.reduceMod, Nat.reduceDiv, Nat.reduceLT, Nat.reduceSub, ↓reduceIte, forall_const, true_implies, kb_1334 hm, kb_1335 hm] at e
  exact e 
theorem k_1454 {a bc de hl ix sp : Nat} {f : Int32} {m : Nat → Nat} {P : PT} {G : GE} (hm : KM m) (h0 : 2 ≤ sp) (h1 : sp < 65536) : RL G a f bc de hl ix sp 1454 m P = RL G a f bc de hl ix (sp - 2) 1684 (up (up m (sp - 1) 5) (sp - 2) 1457) P := by
  have e := fun (h0 : 2 ≤ sp) (h1 : sp < 65536) => rl_CD (pc := 1454) (kb_1454 hm) (by decide) (a := a) (f := f) (bc := bc) (de := de) (hl := hl) (ix := ix) (sp := sp) (P := P) (G := G) h0 h1
  try simp (config := {decide := false}) only [wd, jr, Nat.reduceAdd, Nat.reduceMul, Nat.reduceMod, Nat.reduceDiv, Nat.reduceLT, Nat.reduceSub, ↓reduceIte, forall_const, true_implies, kb_1455 hm, kb_1456 hm] at e
  exact e h0 h1
theorem k_1457 {a bc de hl ix sp : Nat} {f : Int32} {m : Nat → Nat} {P : PT} {G : GE} (hm : KM m)  : RL G a f bc de hl ix sp 1457 m P = RL G a f bc (wd m 252) hl ix sp 1461 m P := by
  have e := fun (h0 : (wd m (1457 + 2)) + 1 < 65536) => rl_ED5B (pc := 1457) (kb_1457 hm) (kb_1458 hm) (by decide) (a := a) (f := f) (bc := bc) (de := de) (hl := hl) (ix := ix) (sp := sp) (P := P) (G := G) h0
  try simp (config := {decide := false}) only [wd, jr, Nat.reduceAdd, Nat.reduceMul, Nat.reduceMod, Nat.reduceDiv, Nat.reduceLT, Nat.reduceSub, ↓reduceIte, forall_const, true_implies, kb_1459 hm, kb_1460 hm] at e
  exact e 
theorem k_1461 {a bc de hl ix sp : Nat} {f : Int32} {m : Nat → Nat} {P : PT} {G : GE} (hm : KM m)  : RL G a f bc de hl ix sp 1461 m P = RL G a f bc de (wd m 250) ix sp 1464 m P := by
  have e := fun (h0 : (wd m (1461 + 1)) + 1 < 65536) => rl_2A (pc := 1461) (kb_1461 hm) (by decide) (a := a) (f := f) (bc := bc) (de := de) (hl := hl) (ix := ix) (sp := sp) (P := P) (G := G) h0
  try simp (config := {decide := false}) only [wd, jr, Nat.reduceAdd, Nat.reduceMul, Nat.reduceMod, Nat.reduceDiv, Nat.reduceLT, Nat.reduceSub, ↓reduceIte, forall_const, true_implies, kb_1462 hm, kb_1463 hm] at e
  exact e 
theorem k_1464 {a bc de hl ix sp : Nat} {f : Int32} {m : Nat → Nat} {P : PT} {G : GE} (hm : KM m) (h0 : a < 256) : RL G a f bc de hl ix sp 1464 m P = RL G (a ||| a) (fLo (a ||| a) false) bc de hl ix sp 1465 m P := by
  have e := fun (h0 : a < 256) => rl_B7 (pc := 1464) (kb_1464 hm) (by decide) (a := a) (f := f) (bc := bc) (de := de) (hl := hl) (ix := ix) (sp := sp) (P := P) (G := G) h0
  try simp (config := {decide := false}) only [wd, jr, Nat.reduceAdd, Nat.reduceMul, Nat.reduceMod, Nat.reduceDiv, Nat.reduceLT, Nat.reduceSub, ↓reduceIte, forall_const, true_implies] at e
  exact e h0
theorem k_1465 {a bc de hl ix sp : Nat} {f : Int32} {m : Nat → Nat} {P : PT} {G : GE} (hm : KM m)  : RL G a f bc de hl ix sp 1465 m P = if cZ f then RL G a f bc de hl ix sp 1476 m P else RL G a f bc de hl ix sp 1467 m P := by
  have e := fun (_ : True) => rl_28 (pc := 1465) (kb_1465 hm) (by decide) (a := a) (f := f) (bc := bc) (de := de) (hl := hl) (ix := ix) (sp := sp) (P := P) (G := G) 
  try simp (config := {decide := false}) only [wd, jr, Nat.reduceAdd, Nat.reduceMul, Nat.reduceMod, Nat.reduceDiv, Nat.reduceLT, Nat.reduceSub, ↓reduceIte, forall_const, true_implies, kb_1466 hm] at e
  exact e 
theorem k_1467 {a bc de hl ix sp : Nat} {f : Int32} {m : Nat → Nat} {P : PT} {G : GE} (hm : KM m) (h0 : 2 ≤ sp) (h1 : sp < 65536) (h2 : hl < 65536) : RL G a f bc de hl ix sp 1467 m P = RL G a f bc de hl ix (sp - 2) 1468 (up (up m (sp - 1) (hl / 256)) (sp - 2) hl) P := by
  have e := fun (h0 : 2 ≤ sp) (h1 : sp < 65536) (h2 : hl < 65536) => rl_E5 (pc := 1467) (kb_1467 hm) (by decide) (a := a) (f := f) (bc := bc) (de := de) (hl := hl) (ix := ix) (sp := sp) (P := P) (G := G) h0 h1 h2
  try simp (config := {decide := false}) only [wd, jr, Nat.reduceAdd, Nat.reduceMul, Nat.reduceMod, Nat.reduceDiv, Nat.reduceLT, Nat.reduceSub, ↓reduceIte, forall_const, true_implies] at e
  exact e h0 h1 h2
theorem k_1468 {a bc de hl ix sp : Nat} {f : Int32} {m : Nat → Nat} {P : PT} {G : GE} (hm : KM m) (h0 : 2 ≤ sp) (h1 : sp < 65536) (h2 : de < 65536) : RL G a f bc de hl ix sp 1468 m P = RL G a f bc de hl ix (sp - 2) 1469 (up (up m (sp - 1) (de / 256)) (sp - 2) de) P := by
  have e := fun (h0 : 2 ≤ sp) (h1 : sp < 65536) (h2 : de < 65536) => rl_D5 (pc := 1468) (kb_1468 hm) (by decide) (a := a) (f := f) (bc := bc) (de := de) (hl := hl) (ix := ix) (sp := sp) (P := P) (G := G) h0 h1 h2
  try simp (config := {decide := false}) only [wd, jr, Nat.reduceAdd, Nat.reduceMul, Nat.reduceMod, Nat.reduceDiv, Nat.reduceLT, Nat.reduceSub, ↓reduceIte, forall_const, true_implies] at e
  exact e h0 h1 h2
theorem k_1469 {a bc de hl ix sp : Nat} {f : Int32} {m : Nat → Nat} {P : PT} {G : GE} (hm : KM m) (h0 : 2 ≤ sp) (h1 : sp < 65536) : RL G a f bc de hl ix sp 1469 m P = RL G a f bc de hl ix (sp - 2) 103 (up (up m (sp - 1) 5) (sp - 2) 1472) P := by
  have e := fun (h0 : 2 ≤ sp) (h1 : sp < 65536) => rl_CD (pc := 1469) (kb_1469 hm) (by decide) (a := a) (f := f) (bc := bc) (de := de) (hl := hl) (ix := ix) (sp := sp) (P := P) (G := G) h0 h1
  try simp (config := {decide := false}) only [wd, jr, Nat.reduceAdd, Nat.reduceMul, Nat.reduceMod, Nat.reduceDiv, Nat.reduceLT, Nat.reduceSub, ↓reduceIte, forall_const, true_implies, kb_1470 hm, kb_1471 hm] at e
  exact e h0 h1
theorem k_1472 {a bc de hl ix sp : Nat} {f : Int32} {m : Nat → Nat} {P : PT} {G : GE} (hm : KM m) (h0 : sp + 2 < 65536) : RL G a f bc de hl ix sp 1472 m P = RL G a f bc (wd m sp) hl ix (sp + 2) 1473 m P := by
  have e := fun (h0 : sp + 2 < 65536) => rl_D1 (pc := 1472) (kb_1472 hm) (by decide) (a := a) (f := f) (bc := bc) (de := de) (hl := hl) (ix := ix) (sp := sp) (P := P) (G := G) h0
  try simp (config := {decide := false}) only [wd, jr, Nat.reduceAdd, Nat.reduceMul, Nat.reduceMod, Nat.reduceDiv, Nat.reduceLT, Nat.reduceSub, ↓reduceIte, forall_const, true_implies] at e
  exact e h0
theorem k_1473 {a bc de hl ix sp : Nat} {f : Int32} {m : Nat → Nat} {P : PT} {G : GE} (hm : KM m) (h0 : sp + 2 < 65536) : RL G a f bc de hl ix sp 1473 m P = RL G a f bc de (wd m sp) ix (sp + 2) 1474 m P := by
  have e := fun (h0 : sp + 2 < 65536) => rl_E1 (pc := 1473) (kb_1473 hm) (by decide) (a := a) (f := f) (bc := bc) (de := de) (hl := hl) (ix := ix) (sp := sp) (P := P) (G := G) h0
  try simp (config := {decide := false}) only [wd, jr, Nat.reduceAdd, Nat.reduceMul, Nat.reduceMod, Nat.reduceDiv, Nat.reduceLT, Nat.reduceSub, ↓reduceIte, forall_const, true_implies] at e
  exact e h0
theorem k_1474 {a bc de hl ix sp : Nat} {f : Int32} {m : Nat → Nat} {P : PT} {G : GE} (hm : KM m)  : RL G a f bc de hl ix sp 1474 m P = RL G a f bc de hl ix sp 1481 m P := by
  have e := fun (_ : True) => rl_18 (pc := 1474) (kb_1474 hm) (by decide) (a := a) (f := f) (bc := bc) (de := de) (hl := hl) (ix := ix) (sp := sp) (P := P) (G := G) 
  try simp (config := {decide := false}) only [wd, jr, Nat.reduceAdd, Nat.reduceMul, Nat.reduceMod, Nat.reduceDiv, Nat.reduceLT, Nat.reduceSub, ↓reduceIte, forall_const, true_implies, kb_1475 hm] at e
  exact e 
theorem k_1476 {a bc de hl ix sp : Nat} {f : Int32} {m : Nat → Nat} {P : PT} {G : GE} (hm : KM m) (h0 : 2 ≤ sp) (h1 : sp < 65536) (h2 : hl < 65536) : RL G a f bc de hl ix sp 1476 m P = RL G a f bc de hl ix (sp - 2) 1477 (up (up m (sp - 1) (hl / 256)) (sp - 2) hl) P := by
  have e := fun (h0 : 2 ≤ sp) (h1 : sp < 65536) (h2 : hl < 65536) => rl_E5 (pc := 1476) (kb_1476 hm) (by decide) (a := a) (f := f) (bc := bc) (de := de) (hl := hl) (ix := ix) (sp := sp) (P := P) (G := G) h0 h1 h2
  try simp (config := {decide := false}) only [wd, jr, Nat.reduceAdd, Nat.reduceMul, Nat.reduceMod, Nat.reduceDiv, Nat.reduceLT, Nat.reduceSub, ↓reduceIte, forall_const, true_implies] at e
  exact e h0 h1 h2
theorem k_1477 {a bc de hl ix sp : Nat} {f : Int32} {m : Nat → Nat} {P : PT} {G : GE} (hm : KM m) (h0 : a < 256) : RL G a f bc de hl ix sp 1477 m P = RL G (a ||| a) (fLo (a ||| a) false) bc de hl ix sp 1478 m P := by
  have e := fun (h0 : a < 256) => rl_B7 (pc := 1477) (kb_1477 hm) (by decide) (a := a) (f := f) (bc := bc) (de := de) (hl := hl) (ix := ix) (sp := sp) (P := P) (G := G) h0
  try simp (config := {decide := false}) only [wd, jr, Nat.reduceAdd, Nat.reduceMul, Nat.reduceMod, Nat.reduceDiv, Nat.reduceLT, Nat.reduceSub, ↓reduceIte, forall_const, true_implies] at e
  exact e h0
theorem k_1478 {a bc de hl ix sp : Nat} {f : Int32} {m : Nat → Nat} {P : PT} {G : GE} (hm : KM m) (h0 : hl < 65536) (h1 : de < 65536) : RL G a f bc de hl ix sp 1478 m P = RL G a (fWs f hl de) bc de ((hl + 131072 - de - cyn f) % 65536) ix sp 1480 m P := by
  have e := fun (h0 : hl < 65536) (h1 : de < 65536) => rl_ED52 (pc := 1478) (kb_1478 hm) (kb_1479 hm) (by decide) (a := a) (f := f) (bc := bc) (de := de) (hl := hl) (ix := ix) (sp := sp) (P := P) (G := G) h0 h1
  try simp (config := {decide := false}) only [wd, jr, Nat.reduceAdd, Nat.reduceMul, Nat.reduceMod, Nat.reduceDiv, Nat.reduceLT, Nat.reduceSub, ↓reduceIte, forall_const, true_implies] at e
  exact e h0 h1
theorem k_1480 {a bc de hl ix sp : Nat} {f : Int32} {m : Nat → Nat} {P : PT} {G : GE} (hm : KM m) (h0 : sp + 2 < 65536) : RL G a f bc de hl ix sp 1480 m P = RL G a f bc de (wd m sp) ix (sp + 2) 1481 m P := by
  have e := fun (h0 : sp + 2 < 65536) => rl_E1 (pc := 1480) (kb_1480 hm) (by decide) (a := a) (f := f) (bc := bc) (de := de) (hl := hl) (ix := ix) (sp := sp) (P := P) (G := G) h0
  try simp (config := {decide := false}) only [wd, jr, Nat.reduceAdd, Nat.reduceMul, Nat.reduceMod, Nat.reduceDiv, Nat.reduceLT, Nat.reduceSub, ↓reduceIte, forall_const, true_implies] at e
  exact e h0
theorem k_1481 {a bc de hl ix sp : Nat} {f : Int32} {m : Nat → Nat} {P : PT} {G : GE} (hm : KM m) (h0 : sp + 2 < 65536) : RL G a f bc de hl ix sp 1481 m P = RL G a f (wd m sp) de hl ix (sp + 2) 1482 m P := by
  have e := fun (h0 : sp + 2 < 65536) => rl_C1 (pc := 1481) (kb_1481 hm) (by decide) (a := a) (f := f) (bc := bc) (de := de) (hl := hl) (ix := ix) (sp := sp) (P := P) (G := G) h0
  try simp (config := {decide := false}) only [wd, jr, Nat.reduceAdd, Nat.reduceMul, Nat.reduceMod, Nat.reduceDiv, Nat.reduceLT, Nat.reduceSub, ↓reduceIte, forall_const, true_implies] at e
  exact e h0
theorem k_1482 {a bc de hl ix sp : Nat} {f : Int32} {m : Nat → Nat} {P : PT} {G : GE} (hm : KM m)  : RL G a f bc de hl ix sp 1482 m P = if cC f then RL G a f bc de hl ix sp 1494 m P else RL G a f bc de hl ix sp 1484 m P := by
  have e := fun (_ : True) => rl_38 (pc := 1482) (kb_1482 hm) (by decide) (a := a) (f := f) (bc := bc) (de := de) (hl := hl) (ix := ix) (sp := sp) (P := P) (G := G) 
  try simp (config := {decide := false}) only [wd, jr, Nat.reduceAdd, Nat.reduceMul, Nat.reduceMod, Nat.reduceDiv, Nat.reduceLT, Nat.reduceSub, ↓reduceIte, forall_const, true_implies, kb_1483 hm] at e
  exact e 
theorem k_1484 {a bc de hl ix sp : Nat} {f : Int32} {m : Nat → Nat} {P : PT} {G : GE} (hm : KM m) (h0 : hl < 65536) (h1 : de < 65536) : RL G a f bc de hl ix sp 1484 m P = RL G a (fWs f hl de) bc de ((hl + 131072 - de - cyn f) % 65536) ix sp 1486 m P := by
  have e := fun (h0 : hl < 65536) (h1 : de < 65536) => rl_ED52 (pc := 1484) (kb_1484 hm) (kb_1485 hm) (by decide) (a := a) (f := f) (bc := bc) (de := de) (hl := hl) (ix := ix) (sp := sp) (P := P) (G := G) h0 h1
  try simp (config := {decide := false}) only [wd, jr, Nat.reduceAdd, Nat.reduceMul, Nat.reduceMod, Nat.reduceDiv, Nat.reduceLT, Nat.reduceSub, ↓reduceIte, forall_const, true_implies] at e
  exact e h0 h1
theorem k_1486 {a bc de hl ix sp : Nat} {f : Int32} {m : Nat → Nat} {P : PT} {G : GE} (hm : KM m) (h0 : a < 256) : RL G a f bc de hl ix sp 1486 m P = RL G (a ||| a) (fLo (a ||| a) false) bc de hl ix sp 1487 m P := by
  have e := fun (h0 : a < 256) => rl_B7 (pc := 1486) (kb_1486 hm) (by decide) (a := a) (f := f) (bc := bc) (de := de) (hl := hl) (ix := ix) (sp := sp) (P := P) (G := G) h0
  try simp (config := {decide := false}) only [wd, jr, Nat.reduceAdd, Nat.reduceMul, Nat.reduceMod, Nat.reduceDiv, Nat.reduceLT, Nat.reduceSub, ↓reduceIte, forall_const, true_implies] at e
  exact e h0
theorem k_1487 {a bc de hl ix sp : Nat} {f : Int32} {m : Nat → Nat} {P : PT} {G : GE} (hm : KM m) (h0 : hl < 65536) (h1 : bc < 65536) : RL G a f bc de hl ix sp 1487 m P = RL G a (fWs f hl bc) bc de ((hl + 131072 - bc - cyn f) % 65536) ix sp 1489 m P := by
  have e := fun (h0 : hl < 65536) (h1 : bc < 65536) => rl_ED42 (pc := 1487) (kb_1487 hm) (kb_1488 hm) (by decide) (a := a) (f := f) (bc := bc) (de := de) (hl := hl) (ix := ix) (sp := sp) (P := P) (G := G) h0 h1
  try simp (config := {decide := false}) only [wd, jr, Nat.reduceAdd, Nat.reduceMul, Nat.reduceMod, Nat.reduceDiv, Nat.reduceLT, Nat.reduceSub, ↓reduceIte, forall_const, true_implies] at e
  exact e h0 h1
theorem k_1489 {a bc de hl ix sp : Nat} {f : Int32} {m : Nat → Nat} {P : PT} {G : GE} (hm : KM m)  : RL G a f bc de hl ix sp 1489 m P = if cC f then RL G a f bc de hl ix sp 1494 m P else RL G a f bc de hl ix sp 1491 m P := by
  have e := fun (_ : True) => rl_38 (pc := 1489) (kb_1489 hm) (by decide) (a := a) (f := f) (bc := bc) (de := de) (hl := hl) (ix := ix) (sp := sp) (P := P) (G := G) 
  try simp (config := {decide := false}) only [wd, jr, Nat.reduceAdd, Nat.reduceMul, Nat.reduceMod, Nat.reduceDiv, Nat.reduceLT, Nat.reduceSub, ↓reduceIte, forall_const, true_implies, kb_1490 hm] at e
  exact e 
theorem k_1491 {a bc de hl ix sp : Nat} {f : Int32} {m : Nat → Nat} {P : PT} {G : GE} (hm : KM m) (h0 : hl < 65536) (h1 : de < 65536) : RL G a f bc de hl ix sp 1491 m P = RL G a f bc hl de ix sp 1492 m P := by
  have e := fun (h0 : hl < 65536) (h1 : de < 65536) => rl_EB (pc := 1491) (kb_1491 hm) (by decide) (a := a) (f := f) (bc := bc) (de := de) (hl := hl) (ix := ix) (sp := sp) (P := P) (G := G) h0 h1
  try simp (config := {decide := false}) only [wd, jr, Nat.reduceAdd, Nat.reduceMul, Nat.reduceMod, Nat.reduceDiv, Nat.reduceLT, Nat.reduceSub, ↓reduceIte, forall_const, true_implies] at e
  exact e h0 h1
theorem k_1492 {a bc de hl ix sp : Nat} {f : Int32} {m : Nat → Nat} {P : PT} {G : GE} (hm : KM m) (h0 : hl < 65536) (h1 : bc < 65536) : RL G a f bc de hl ix sp 1492 m P = RL G a (fAdd f hl bc) bc de ((hl + bc) % 65536) ix sp 1493 m P := by
  have e := fun (h0 : hl < 65536) (h1 : bc < 65536) => rl_09 (pc := 1492) (kb_1492 hm) (by decide) (a := a) (f := f) (bc := bc) (de := de) (hl := hl) (ix := ix) (sp := sp) (P := P) (G := G) h0 h1
  try simp (config := {decide := false}) only [wd, jr, Nat.reduceAdd, Nat.reduceMul, Nat.reduceMod, Nat.reduceDiv, Nat.reduceLT, Nat.reduceSub, ↓reduceIte, forall_const, true_implies] at e
  exact e h0 h1
theorem k_1493 {a bc de hl ix sp : Nat} {f : Int32} {m : Nat → Nat} {P : PT} {G : GE} (hm : KM m) (h0 : a < 256) : RL G a f bc de hl ix sp 1493 m P = RL G (a ||| a) (fLo (a ||| a) false) bc de hl ix sp 1494 m P := by
  have e := fun (h0 : a < 256) => rl_B7 (pc := 1493) (kb_1493 hm) (by decide) (a := a) (f := f) (bc := bc) (de := de) (hl := hl) (ix := ix) (sp := sp) (P := P) (G := G) h0
  try simp (config := {decide := false}) only [wd, jr, Nat.reduceAdd, Nat.reduceMul, Nat.reduceMod, Nat.reduceDiv, Nat.reduceLT, Nat.reduceSub, ↓reduceIte, forall_const, true_implies] at e
  exact e h0
theorem k_1494 {a bc de hl ix sp : Nat} {f : Int32} {m : Nat → Nat} {P : PT} {G : GE} (hm : KM m) (h0 : sp + 2 < 65536) : RL G a f bc de hl ix sp 1494 m P = RL G a f bc de hl ix (sp + 2) (wd m sp) m P := by
  have e := fun (h0 : sp + 2 < 65536) => rl_C9 (pc := 1494) (kb_1494 hm) (by decide) (a := a) (f := f) (bc := bc) (de := de) (hl := hl) (ix := ix) (sp := sp) (P := P) (G := G) h0
  try simp (config := {decide := false}) only [wd, jr, Nat.reduceAdd, Nat.reduceMul, Nat.reduceMod, Nat.reduceDiv, Nat.reduceLT, Nat.reduceSub, ↓reduceIte, forall_const, true_implies] at e
  exact e h0
theorem k_1540 {a bc de hl ix sp : Nat} {f : Int32} {m : Nat → Nat} {P : PT} {G : GE} (hm : KM m) (h0 : hl < 65536) : RL G a f bc de hl ix sp 1540 m P = RL G a (fBit f (hl / 256)) bc de hl ix sp 1542 m P := by
  have e := fun (h0 : hl < 65536) => rl_CB7C (pc := 1540) (kb_1540 hm) (kb_1541 hm) (by decide) (a := a) (f := f) (bc := bc) (de := de) (hl := hl) (ix := ix) (sp := sp) (P := P) (G := G) h0
  try simp (config := {decide := false}) only [wd, jr, Nat.reduceAdd, Nat.reduceMul, Nat.reduceMod, Nat.reduceDiv, Nat.reduceLT, Nat.reduceSub, ↓reduceIte, forall_const, true_implies] at e
  exact e h0
theorem k_1542 {a bc de hl ix sp : Nat} {f : Int32} {m : Nat → Nat} {P : PT} {G : GE} (hm : KM m)  : RL G a f bc de hl ix sp 1542 m P = if cZ f then RL G a f bc de hl ix sp 91 m P else RL G a f bc de hl ix sp 1545 m P := by
  have e := fun (_ : True) => rl_CA (pc := 1542) (kb_1542 hm) (by decide) (a := a) (f := f) (bc := bc) (de := de) (hl := hl) (ix := ix) (sp := sp) (P := P) (G := G) 
  try simp (config := {decide := false}) only [wd, jr, Nat.reduceAdd, Nat.reduceMul, Nat.reduceMod, Nat.reduceDiv, Nat.reduceLT, Nat.reduceSub, ↓reduceIte, forall_const, true_implies, kb_1543 hm, kb_1544 hm] at e
  exact e 
theorem k_1545 {a bc de hl ix sp : Nat} {f : Int32} {m : Nat → Nat} {P : PT} {G : GE} (hm : KM m)  : RL G a f bc de hl ix sp 1545 m P = RL G a f bc de hl ix sp 70 m P := by
  have e := fun (_ : True) => rl_C3 (pc := 1545) (kb_1545 hm) (by decide) (a := a) (f := f) (bc := bc) (de := de) (hl := hl) (ix := ix) (sp := sp) (P := P) (G := G) 
  try simp (config := {decide := false}) only [wd, jr, Nat.reduceAdd, Nat.reduceMul, Nat.reduceMod, Nat.reduceDiv, Nat.reduceLT, Nat.reduceSub, ↓reduceIte, forall_const, true_implies, kb_1546 hm, kb_1547 hm] at e
  exact e 
theorem k_1586 {a bc de hl ix sp : Nat} {f : Int32} {m : Nat → Nat} {P : PT} {G : GE} (hm : KM m)  : RL G a f bc de hl ix sp 1586 m P = RL G 8 f bc de hl ix sp 1588 m P := by
  have e := fun (_ : True) => rl_3E (pc := 1586) (kb_1586 hm) (by decide) (a := a) (f := f) (bc := bc) (de := de) (hl := hl) (ix := ix) (sp := sp) (P := P) (G := G) 
  try simp (config := {decide := false}) only [wd, jr, Nat.reduceAdd, Nat.reduceMul, Nat.reduceMod, Nat.reduceDiv, Nat.reduceLT, Nat.reduceSub, ↓reduceIte, forall_const, true_implies, kb_1587 hm] at e
  exact e 
theorem k_1588 {a bc de hl ix sp : Nat} {f : Int32} {m : Nat → Nat} {P : PT} {G : GE} (hm : KM m)  : RL G a f bc de hl ix sp 1588 m P = RL G a f bc de hl ix sp 1548 m P := by
  have e := fun (_ : True) => rl_C3 (pc := 1588) (kb_1588 hm) (by decide) (a := a) (f := f) (bc := bc) (de := de) (hl := hl) (ix := ix) (sp := sp) (P := P) (G := G) 
  try simp (config := {decide := false}) only [wd, jr, Nat.reduceAdd, Nat.reduceMul, Nat.reduceMod, Nat.reduceDiv, Nat.reduceLT, Nat.reduceSub, ↓reduceIte, forall_const, true_implies, kb_1589 hm, kb_1590 hm] at e
  exact e 
theorem k_1591 {a bc de hl ix sp : Nat} {f : Int32} {m : Nat → Nat} {P : PT} {G : GE} (hm : KM m) (h0 : hl < 65536) : RL G a f bc de hl ix sp 1591 m P = RL G (hl / 256) f bc de hl ix sp 1592 m P := by
  have e := fun (h0 : hl < 65536) => rl_7C (pc := 1591) (kb_1591 hm) (by decide) (a := a) (f := f) (bc := bc) (de := de) (hl := hl) (ix := ix) (sp := sp) (P := P) (G := G) h0
  try simp (config := {decide := false}) only [wd, jr, Nat.reduceAdd, Nat.reduceMul, Nat.reduceMod, Nat.reduceDiv, Nat.reduceLT, Nat.reduceSub, ↓reduceIte, forall_const, true_implies] at e
  exact e h0
theorem k_1592 {a bc de hl ix sp : Nat} {f : Int32} {m : Nat → Nat} {P : PT} {G : GE} (hm : KM m) (h0 : a < 256) : RL G a f bc de hl ix sp 1592 m P = RL G (a ||| a) (fLo (a ||| a) false) bc de hl ix sp 1593 m P := by
  have e := fun (h0 : a < 256) => rl_B7 (pc := 1592) (kb_1592 hm) (by decide) (a := a) (f := f) (bc := bc) (de := de) (hl := hl) (ix := ix) (sp := sp) (P := P) (G := G) h0
  try simp (config := {decide := false}) only [wd, jr, Nat.reduceAdd, Nat.reduceMul, Nat.reduceMod, Nat.reduceDiv, Nat.reduceLT, Nat.reduceSub, ↓reduceIte, forall_const, true_implies] at e
  exact e h0
theorem k_1593 {a bc de hl ix sp : Nat} {f : Int32} {m : Nat → Nat} {P : PT} {G : GE} (hm : KM m) (h0 : sp + 2 < 65536) : RL G a f bc de hl ix sp 1593 m P = if ¬ cS f then RL G a f bc de hl ix (sp + 2) (wd m sp) m P else RL G a f bc de hl ix sp 1594 m P := by
  have e := fun (h0 : sp + 2 < 65536) => rl_F0 (pc := 1593) (kb_1593 hm) (by decide) (a := a) (f := f) (bc := bc) (de := de) (hl := hl) (ix := ix) (sp := sp) (P := P) (G := G) h0
  try simp (config := {decide := false}) only [wd, jr, Nat.reduceAdd, Nat.reduceMul, Nat.reduceMod, Nat.reduceDiv, Nat.reduceLT, Nat.reduceSub, ↓reduceIte, forall_const, true_implies] at e
  exact e h0
theorem k_1594 {a bc de hl ix sp : Nat} {f : Int32} {m : Nat → Nat} {P : PT} {G : GE} (hm : KM m) (h0 : a < 256) : RL G a f bc de hl ix sp 1594 m P = RL G (a ^^^ a) (fLo (a ^^^ a) false) bc de hl ix sp 1595 m P := by
  have e := fun (h0 : a < 256) => rl_AF (pc := 1594) (kb_1594 hm) (by decide) (a := a) (f := f) (bc := bc) (de := de) (hl := hl) (ix := ix) (sp := sp) (P := P) (G := G) h0
  try simp (config := {decide := false}) only [wd, jr, Nat.reduceAdd, Nat.reduceMul, Nat.reduceMod, Nat.reduceDiv, Nat.reduceLT, Nat.reduceSub, ↓reduceIte, forall_const, true_implies] at e
  exact e h0
theorem k_1595 {a bc de hl ix sp : Nat} {f : Int32} {m : Nat → Nat} {P : PT} {G : GE} (hm : KM m) (h0 : a < 256) (h1 : hl < 65536) : RL G a f bc de hl ix sp 1595 m P = RL G ((a + 256 - (hl % 256)) % 256) (fMi a (hl % 256) 0) bc de hl ix sp 1596 m P := by
  have e := fun (h0 : a < 256) (h1 : hl < 65536) => rl_95 (pc := 1595) (kb_1595 hm) (by decide) (a := a) (f := f) (bc := bc) (de := de) (hl := hl) (ix := ix) (sp := sp) (P := P) (G := G) h0 h1
  try simp (config := {decide := false}) only [wd, jr, Nat.reduceAdd, Nat.reduceMul, Nat.reduceMod, Nat.reduceDiv, Nat.reduceLT, Nat.reduceSub, ↓reduceIte, forall_const, true_implies] at e
  exact e h0 h1
theorem k_1596 {a bc de hl ix sp : Nat} {f : Int32} {m : Nat → Nat} {P : PT} {G : GE} (hm : KM m) (h0 : a < 256) (h1 : hl < 65536) : RL G a f bc de hl ix sp 1596 m P = RL G a f bc de (hl / 256 * 256 + a) ix sp 1597 m P := by
  have e := fun (h0 : a < 256) (h1 : hl < 65536) => rl_6F (pc := 1596) (kb_1596 hm) (by decide) (a := a) (f := f) (bc := bc) (de := de) (hl := hl) (ix := ix) (sp := sp) (P := P) (G := G) h0 h1
  try simp (config := {decide := false}) only [wd, jr, Nat.reduceAdd, Nat.reduceMul, Nat.reduceMod, Nat.reduceDiv, Nat.reduceLT, Nat.reduceSub, ↓reduceIte, forall_const, true_implies] at e
  exact e h0 h1
theorem k_1597 {a bc de hl ix sp : Nat} {f : Int32} {m : Nat → Nat} {P : PT} {G : GE} (hm : KM m) (h0 : a < 256) : RL G a f bc de hl ix sp 1597 m P = RL G ((a + 512 - a - cyn f) % 256) (fMi a a (cyn f)) bc de hl ix sp 1598 m P := by
  have e := fun (h0 : a < 256) => rl_9F (pc := 1597) (kb_1597 hm) (by decide) (a := a) (f := f) (bc := bc) (de := de) (hl := hl) (ix := ix) (sp := sp) (P := P) (G := G) h0
  try simp (config := {decide := false}) only [wd, jr, Nat.reduceAdd, Nat.reduceMul, Nat.reduceMod, Nat.reduceDiv, Nat.reduceLT, Nat.reduceSub, ↓reduceIte, forall_const, true_implies] at e
  exact e h0
theorem k_1598 {a bc de hl ix sp : Nat} {f : Int32} {m : Nat → Nat} {P : PT} {G : GE} (hm : KM m) (h0 : a < 256) (h1 : hl < 65536) : RL G a f bc de hl ix sp 1598 m P = RL G ((a + 256 - (hl / 256)) % 256) (fMi a (hl / 256) 0) bc de hl ix sp 1599 m P := by
  have e := fun (h0 : a < 256) (h1 : hl < 65536) => rl_94 (pc := 1598) (kb_1598 hm) (by decide) (a := a) (f := f) (bc := bc) (de := de) (hl := hl) (ix := ix) (sp := sp) (P := P) (G := G) h0 h1
  try simp (config := {decide := false}) only [wd, jr, Nat.reduceAdd, Nat.reduceMul, Nat.reduceMod, Nat.reduceDiv, Nat.reduceLT, Nat.reduceSub, ↓reduceIte, forall_const, true_implies] at e
  exact e h0 h1
theorem k_1599 {a bc de hl ix sp : Nat} {f : Int32} {m : Nat → Nat} {P : PT} {G : GE} (hm : KM m) (h0 : a < 256) (h1 : hl < 65536) : RL G a f bc de hl ix sp 1599 m P = RL G a f bc de (a * 256 + hl % 256) ix sp 1600 m P := by
  have e := fun (h0 : a < 256) (h1 : hl < 65536) => rl_67 (pc := 1599) (kb_1599 hm) (by decide) (a := a) (f := f) (bc := bc) (de := de) (hl := hl) (ix := ix) (sp := sp) (P := P) (G := G) h0 h1
  try simp (config := {decide := false}) only [wd, jr, Nat.reduceAdd, Nat.reduceMul, Nat.reduceMod, Nat.reduceDiv, Nat.reduceLT, Nat.reduceSub, ↓reduceIte, forall_const, true_implies] at e
  exact e h0 h1
theorem k_1600 {a bc de hl ix sp : Nat} {f : Int32} {m : Nat → Nat} {P : PT} {G : GE} (hm : KM m) (h0 : sp + 2 < 65536) : RL G a f bc de hl ix sp 1600 m P = RL G a f bc de hl ix (sp + 2) (wd m sp) m P := by
  have e := fun (h0 : sp + 2 < 65536) => rl_C9 (pc := 1600) (kb_1600 hm) (by decide) (a := a) (f := f) (bc := bc) (de := de) (hl := hl) (ix := ix) (sp := sp) (P := P) (G := G) h0
  try simp (config := {decide := false}) only [wd, jr, Nat.reduceAdd, Nat.reduceMul, Nat.reduceMod, Nat.reduceDiv, Nat.reduceLT, Nat.reduceSub, ↓reduceIte, forall_const, true_implies] at e
  exact e h0
theorem k_1601 {a bc de hl ix sp : Nat} {f : Int32} {m : Nat → Nat} {P : PT} {G : GE} (hm : KM m) (h0 : de < 65536) : RL G a f bc de hl ix sp 1601 m P = RL G (de / 256) f bc de hl ix sp 1602 m P := by
  have e := fun (h0 : de < 65536) => rl_7A (pc := 1601) (kb_1601 hm) (by decide) (a := a) (f := f) (bc := bc) (de := de) (hl := hl) (ix := ix) (sp := sp) (P := P) (G := G) h0
  try simp (config := {decide := false}) only [wd, jr, Nat.reduceAdd, Nat.reduceMul, Nat.reduceMod, Nat.reduceDiv, Nat.reduceLT, Nat.reduceSub, ↓reduceIte, forall_const, true_implies] at e
  exact e h0
theorem k_1602 {a bc de hl ix sp : Nat} {f : Int32} {m : Nat → Nat} {P : PT} {G : GE} (hm : KM m) (h0 : a < 256) (h1 : de < 65536) : RL G a f bc de hl ix sp 1602 m P = RL G (a ||| (de % 256)) (fLo (a ||| (de % 256)) false) bc de hl ix sp 1603 m P := by
  have e := fun (h0 : a < 256) (h1 : de < 65536) => rl_B3 (pc := 1602) (kb_1602 hm) (by decide) (a := a) (f := f) (bc := bc) (de := de) (hl := hl) (ix := ix) (sp := sp) (P := P) (G := G) h0 h1
  try simp (config := {decide := false}) only [wd, jr, Nat.reduceAdd, Nat.reduceMul, Nat.reduceMod, Nat.reduceDiv, Nat.reduceLT, Nat.reduceSub, ↓reduceIte, forall_const, true_implies] at e
  exact e h0 h1
theorem k_1603 {a bc de hl ix sp : Nat} {f : Int32} {m : Nat → Nat} {P : PT} {G : GE} (hm : KM m)  : RL G a f bc de hl ix sp 1603 m P = if cZ f then RL G a f bc de hl ix sp 73 m P else RL G a f bc de hl ix sp 1606 m P := by
  have e := fun (_ : True) => rl_CA (pc := 1603) (kb_1603 hm) (by decide) (a := a) (f := f) (bc := bc) (de := de) (hl := hl) (ix := ix) (sp := sp) (P := P) (G := G) 
  try simp (config := {decide := false}) only [wd, jr, Nat.reduceAdd, Nat.reduceMul, Nat.reduceMod, Nat.reduceDiv, Nat.reduceLT, Nat.reduceSub, ↓reduceIte, forall_const, true_implies, kb_1604 hm, kb_1605 hm] at e
  exact e 
theorem k_1606 {a bc de hl ix sp : Nat} {f : Int32} {m : Nat → Nat} {P : PT} {G : GE} (hm : KM m) (h0 : hl < 65536) (h1 : bc < 65536) : RL G a f bc de hl ix sp 1606 m P = RL G a f ((hl / 256) * 256 + bc % 256) de hl ix sp 1607 m P := by
  have e := fun (h0 : hl < 65536) (h1 : bc < 65536) => rl_44 (pc := 1606) (kb_1606 hm) (by decide) (a := a) (f := f) (bc := bc) (de := de) (hl := hl) (ix := ix) (sp := sp) (P := P) (G := G) h0 h1
  try simp (config := {decide := false}) only [wd, jr, Nat.reduceAdd, Nat.reduceMul, Nat.reduceMod, Nat.reduceDiv, Nat.reduceLT, Nat.reduceSub, ↓reduceIte, forall_const, true_implies] at e
  exact e h0 h1
theorem k_1607 {a bc de hl ix sp : Nat} {f : Int32} {m : Nat → Nat} {P : PT} {G : GE} (hm : KM m) (h0 : hl < 65536) (h1 : bc < 65536) : RL G a f bc de hl ix sp 1607 m P = RL G a f (bc / 256 * 256 + (hl % 256)) de hl ix sp 1608 m P := by
  have e := fun (h0 : hl < 65536) (h1 : bc < 65536) => rl_4D (pc := 1607) (kb_1607 hm) (by decide) (a := a) (f := f) (bc := bc) (de := de) (hl := hl) (ix := ix) (sp := sp) (P := P) (G := G) h0 h1
  try simp (config := {decide := false}) only [wd, jr, Nat.reduceAdd, Nat.reduceMul, Nat.reduceMod, Nat.reduceDiv, Nat.reduceLT, Nat.reduceSub, ↓reduceIte, forall_const, true_implies] at e
  exact e h0 h1
theorem k_1608 {a bc de hl ix sp : Nat} {f : Int32} {m : Nat → Nat} {P : PT} {G : GE} (hm : KM m)  : RL G a f bc de hl ix sp 1608 m P = RL G a f bc de 0 ix sp 1611 m P := by
  have e := fun (_ : True) => rl_21 (pc := 1608) (kb_1608 hm) (by decide) (a := a) (f := f) (bc := bc) (de := de) (hl := hl) (ix := ix) (sp := sp) (P := P) (G := G) 
  try simp (config := {decide := false}) only [wd, jr, Nat.reduceAdd, Nat.reduceMul, Nat.reduceMod, Nat.reduceDiv, Nat.reduceLT, Nat.reduceSub, ↓reduceIte, forall_const, true_implies, kb_1609 hm, kb_1610 hm] at e
  exact e 
theorem k_1611 {a bc de hl ix sp : Nat} {f : Int32} {m : Nat → Nat} {P : PT} {G : GE} (hm : KM m)  : RL G a f bc de hl ix sp 1611 m P = RL G 16 f bc de hl ix sp 1613 m P := by
  have e := fun (_ : True) => rl_3E (pc := 1611) (kb_1611 hm) (by decide) (a := a) (f := f) (bc := bc) (de := de) (hl := hl) (ix := ix) (sp := sp) (P := P) (G := G) 
  try simp (config := {decide := false}) only [wd, jr, Nat.reduceAdd, Nat.reduceMul, Nat.reduceMod, Nat.reduceDiv, Nat.reduceLT, Nat.reduceSub, ↓reduceIte, forall_const, true_implies, kb_1612 hm] at e
  exact e 
theorem k_1613 {a bc de hl ix sp : Nat} {f : Int32} {m : Nat → Nat} {P : PT} {G : GE} (hm : KM m) (h0 : bc < 65536) : RL G a f bc de hl ix sp 1613 m P = RL G a (fRot (bc % 256 * 2 % 256) (decide (128 ≤ bc % 256))) (bc / 256 * 256 + (bc % 256 * 2 % 256)) de hl ix sp 1615 m P := by
  have e := fun (h0 : bc < 65536) => rl_CB21 (pc := 1613) (kb_1613 hm) (kb_1614 hm) (by decide) (a := a) (f := f) (bc := bc) (de := de) (hl := hl) (ix := ix) (sp := sp) (P := P) (G := G) h0
  try simp (config := {decide := false}) only [wd, jr, Nat.reduceAdd, Nat.reduceMul, Nat.reduceMod, Nat.reduceDiv, Nat.reduceLT, Nat.reduceSub, ↓reduceIte, forall_const, true_implies] at e
  exact e h0
theorem k_1615 {a bc de hl ix sp : Nat} {f : Int32} {m : Nat → Nat} {P : PT} {G : GE} (hm : KM m) (h0 : bc < 65536) : RL G a f bc de hl ix sp 1615 m P = RL G a (fRot ((bc / 256 * 2 + cyn f) % 256) (decide (128 ≤ bc / 256))) (((bc / 256 * 2 + cyn f) % 256) * 256 + bc % 256) de hl ix sp 1617 m P := by
  have e := fun (h0 : bc < 65536) => rl_CB10 (pc := 1615) (kb_1615 hm) (kb_1616 hm) (by decide) (a := a) (f := f) (bc := bc) (de := de) (hl := hl) (ix := ix) (sp := sp) (P := P) (G := G) h0
  try simp (config := {decide := false}) only [wd, jr, Nat.reduceAdd, Nat.reduceMul, Nat.reduceMod, Nat.reduceDiv, Nat.reduceLT, Nat.reduceSub, ↓reduceIte, forall_const, true_implies] at e
  exact e h0
theorem k_1617 {a bc de hl ix sp : Nat} {f : Int32} {m : Nat → Nat} {P : PT} {G : GE} (hm : KM m) (h0 : hl < 65536) : RL G a f bc de hl ix sp 1617 m P = RL G a (fWa f hl hl) bc de ((hl + hl + cyn f) % 65536) ix sp 1619 m P := by
  have e := fun (h0 : hl < 65536) => rl_ED6A (pc := 1617) (kb_1617 hm) (kb_1618 hm) (by decide) (a := a) (f := f) (bc := bc) (de := de) (hl := hl) (ix := ix) (sp := sp) (P := P) (G := G) h0
  try simp (config := {decide := false}) only [wd, jr, Nat.reduceAdd, Nat.reduceMul, Nat.reduceMod, Nat.reduceDiv, Nat.reduceLT, Nat.reduceSub, ↓reduceIte, forall_const, true_implies] at e
  exact e h0
theorem k_1619 {a bc de hl ix sp : Nat} {f : Int32} {m : Nat → Nat} {P : PT} {G : GE} (hm : KM m)  : RL G a f bc de hl ix sp 1619 m P = if cC f then RL G a f bc de hl ix sp 1628 m P else RL G a f bc de hl ix sp 1621 m P := by
  have e := fun (_ : True) => rl_38 (pc := 1619) (kb_1619 hm) (by decide) (a := a) (f := f) (bc := bc) (de := de) (hl := hl) (ix := ix) (sp := sp) (P := P) (G := G) 
  try simp (config := {decide := false}) only [wd, jr, Nat.reduceAdd, Nat.reduceMul, Nat.reduceMod, Nat.reduceDiv, Nat.reduceLT, Nat.reduceSub, ↓reduceIte, forall_const, true_implies, kb_1620 hm] at e
  exact e 
theorem k_1621 {a bc de hl ix sp : Nat} {f : Int32} {m : Nat → Nat} {P : PT} {G : GE} (hm : KM m) (h0 : hl < 65536) (h1 : de < 65536) : RL G a f bc de hl ix sp 1621 m P = RL G a (fWs f hl de) bc de ((hl + 131072 - de - cyn f) % 65536) ix sp 1623 m P := by
  have e := fun (h0 : hl < 65536) (h1 : de < 65536) => rl_ED52 (pc := 1621) (kb_1621 hm) (kb_1622 hm) (by decide) (a := a) (f := f) (bc := bc) (de := de) (hl := hl) (ix := ix) (sp := sp) (P := P) (G := G) h0 h1
  try simp (config := {decide := false}) only [wd, jr, Nat.reduceAdd, Nat.reduceMul, Nat.reduceMod, Nat.reduceDiv, Nat.reduceLT, Nat.reduceSub, ↓reduceIte, forall_const, true_implies] at e
  exact e h0 h1
theorem k_1623 {a bc de hl ix sp : Nat} {f : Int32} {m : Nat → Nat} {P : PT} {G : GE} (hm : KM m)  : RL G a f bc de hl ix sp 1623 m P = if ¬ cC f then RL G a f bc de hl ix sp 1631 m P else RL G a f bc de hl ix sp 1625 m P := by
  have e := fun (_ : True) => rl_30 (pc := 1623) (kb_1623 hm) (by decide) (a := a) (f := f) (bc := bc) (de := de) (hl := hl) (ix := ix) (sp := sp) (P := P) (G := G) 
  try simp (config := {decide := false}) only [wd, jr, Nat.reduceAdd, Nat.reduceMul, Nat.reduceMod, Nat.reduceDiv, Nat.reduceLT, Nat.reduceSub, ↓reduceIte, forall_const, true_implies, kb_1624 hm] at e
  exact e 
theorem k_1625 {a bc de hl ix sp : Nat} {f : Int32} {m : Nat → Nat} {P : PT} {G : GE} (hm : KM m) (h0 : hl < 65536) (h1 : de < 65536) : RL G a f bc de hl ix sp 1625 m P = RL G a (fAdd f hl de) bc de ((hl + de) % 65536) ix sp 1626 m P := by
  have e := fun (h0 : hl < 65536) (h1 : de < 65536) => rl_19 (pc := 1625) (kb_1625 hm) (by decide) (a := a) (f := f) (bc := bc) (de := de) (hl := hl) (ix := ix) (sp := sp) (P := P) (G := G) h0 h1
  try simp (config := {decide := false}) only [wd, jr, Nat.reduceAdd, Nat.reduceMul, Nat.reduceMod, Nat.reduceDiv, Nat.reduceLT, Nat.reduceSub, ↓reduceIte, forall_const, true_implies] at e
  exact e h0 h1
theorem k_1626 {a bc de hl ix sp : Nat} {f : Int32} {m : Nat → Nat} {P : PT} {G : GE} (hm : KM m)  : RL G a f bc de hl ix sp 1626 m P = RL G a f bc de hl ix sp 1632 m P := by
  have e := fun (_ : True) => rl_18 (pc := 1626) (kb_1626 hm) (by decide) (a := a) (f := f) (bc := bc) (de := de) (hl := hl) (ix := ix) (sp := sp) (P := P) (G := G) 
  try simp (config := {decide := false}) only [wd, jr, Nat.reduceAdd, Nat.reduceMul, Nat.reduceMod, Nat.reduceDiv, Nat.reduceLT, Nat.reduceSub, ↓reduceIte, forall_const, true_implies, kb_1627 hm] at e
  exact e 
theorem k_1628 {a bc de hl ix sp : Nat} {f : Int32} {m : Nat → Nat} {P : PT} {G : GE} (hm : KM m) (h0 : a < 256) : RL G a f bc de hl ix sp 1628 m P = RL G (a ||| a) (fLo (a ||| a) false) bc de hl ix sp 1629 m P := by
  have e := fun (h0 : a < 256) => rl_B7 (pc := 1628) (kb_1628 hm) (by decide) (a := a) (f := f) (bc := bc) (de := de) (hl := hl) (ix := ix) (sp := sp) (P := P) (G := G) h0
  try simp (config := {decide := false}) only [wd, jr, Nat.reduceAdd, Nat.reduceMul, Nat.reduceMod, Nat.reduceDiv, Nat.reduceLT, Nat.reduceSub, ↓reduceIte, forall_const, true_implies] at e
  exact e h0
theorem k_1629 {a bc de hl ix sp : Nat} {f : Int32} {m : Nat → Nat} {P : PT} {G : GE} (hm : KM m) (h0 : hl < 65536) (h1 : de < 65536) : RL G a f bc de hl ix sp 1629 m P = RL G a (fWs f hl de) bc de ((hl + 131072 - de - cyn f) % 65536) ix sp 1631 m P := by
  have e := fun (h0 : hl < 65536) (h1 : de < 65536) => rl_ED52 (pc := 1629) (kb_1629 hm) (kb_1630 hm) (by decide) (a := a) (f := f) (bc := bc) (de := de) (hl := hl) (ix := ix) (sp := sp) (P := P) (G := G) h0 h1
  try simp (config := {decide := false}) only [wd, jr, Nat.reduceAdd, Nat.reduceMul, Nat.reduceMod, Nat.reduceDiv, Nat.reduceLT, Nat.reduceSub, ↓reduceIte, forall_const, true_implies] at e
  exact e h0 h1
theorem k_1631 {a bc de hl ix sp : Nat} {f : Int32} {m : Nat → Nat} {P : PT} {G : GE} (hm : KM m) (h0 : bc < 65536) : RL G a f bc de hl ix sp 1631 m P = RL G a (fInc f (bc % 256)) (bc / 256 * 256 + (((bc % 256) + 1) % 256)) de hl ix sp 1632 m P := by
  have e := fun (h0 : bc < 65536) => rl_0C (pc := 1631) (kb_1631 hm) (by decide) (a := a) (f := f) (bc := bc) (de := de) (hl := hl) (ix := ix) (sp := sp) (P := P) (G := G) h0
  try simp (config := {decide := false}) only [wd, jr, Nat.reduceAdd, Nat.reduceMul, Nat.reduceMod, Nat.reduceDiv, Nat.reduceLT, Nat.reduceSub, ↓reduceIte, forall_const, true_implies] at e
  exact e h0
theorem k_1632 {a bc de hl ix sp : Nat} {f : Int32} {m : Nat → Nat} {P : PT} {G : GE} (hm : KM m) (h0 : a < 256) : RL G a f bc de hl ix sp 1632 m P = RL G ((a + 255) % 256) (fDec f a) bc de hl ix sp 1633 m P := by
  have e := fun (h0 : a < 256) => rl_3D (pc := 1632) (kb_1632 hm) (by decide) (a := a) (f := f) (bc := bc) (de := de) (hl := hl) (ix := ix) (sp := sp) (P := P) (G := G) h0
  try simp (config := {decide := false}) only [wd, jr, Nat.reduceAdd, Nat.reduceMul, Nat.reduceMod, Nat.reduceDiv, Nat.reduceLT, Nat.reduceSub, ↓reduceIte, forall_const, true_implies] at e
  exact e h0
theorem k_1633 {a bc de hl ix sp : Nat} {f : Int32} {m : Nat → Nat} {P : PT} {G : GE} (hm : KM m)  : RL G a f bc de hl ix sp 1633 m P = if ¬ cZ f then RL G a f bc de hl ix sp 1613 m P else RL G a f bc de hl ix sp 1635 m P := by
  have e := fun (_ : True) => rl_20 (pc := 1633) (kb_1633 hm) (by decide) (a := a) (f := f) (bc := bc) (de := de) (hl := hl) (ix := ix) (sp := sp) (P := P) (G := G) 
  try simp (config := {decide := false}) only [wd, jr, Nat.reduceAdd, Nat.reduceMul, Nat.reduceMod, Nat.reduceDiv, Nat.reduceLT, Nat.reduceSub, ↓reduceIte, forall_const, true_implies, kb_1634 hm] at e
  exact e 
theorem k_1635 {a bc de hl ix sp : Nat} {f : Int32} {m : Nat → Nat} {P : PT} {G : GE} (hm : KM m) (h0 : sp + 2 < 65536) : RL G a f bc de hl ix sp 1635 m P = RL G a f bc de hl ix (sp + 2) (wd m sp) m P := by
  have e := fun (h0 : sp + 2 < 65536) => rl_C9 (pc := 1635) (kb_1635 hm) (by decide) (a := a) (f := f) (bc := bc) (de := de) (hl := hl) (ix := ix) (sp := sp) (P := P) (G := G) h0
  try simp (config := {decide := false}) only [wd, jr, Nat.reduceAdd, Nat.reduceMul, Nat.reduceMod, Nat.reduceDiv, Nat.reduceLT, Nat.reduceSub, ↓reduceIte, forall_const, true_implies] at e
  exact e h0
theorem k_1684 {a bc de hl ix sp : Nat} {f : Int32} {m : Nat → Nat} {P : PT} {G : GE} (hm : KM m) (h0 : de < 65536) : RL G a f bc de hl ix sp 1684 m P = RL G a f bc de hl ix sp 1688 (up (up m 250 de) (251) (de / 256)) P := by
  have e := fun (h0 : de < 65536) (h1 : (wd m (1684 + 2)) + 1 < 65536) => rl_ED53 (pc := 1684) (kb_1684 hm) (kb_1685 hm) (by decide) (a := a) (f := f) (bc := bc) (de := de) (hl := hl) (ix := ix) (sp := sp) (P := P) (G := G) h0 h1
  try simp (config := {decide := false}) only [wd, jr, Nat.reduceAdd, Nat.reduceMul, Nat.reduceMod, Nat.reduceDiv, Nat.reduceLT, Nat.reduceSub, ↓reduceIte, forall_const, true_implies, kb_1686 hm, kb_1687 hm] at e
  exact e h0
theorem k_1688 {a bc de hl ix sp : Nat} {f : Int32} {m : Nat → Nat} {P : PT} {G : GE} (hm : KM m) (h0 : hl < 65536) : RL G a f bc de hl ix sp 1688 m P = RL G a f bc de hl ix sp 1691 (up (up m 252 hl) (253) (hl / 256)) P := by
  have e := fun (h0 : hl < 65536) (h1 : (wd m (1688 + 1)) + 1 < 65536) => rl_22 (pc := 1688) (kb_1688 hm) (by decide) (a := a) (f := f) (bc := bc) (de := de) (hl := hl) (ix := ix) (sp := sp) (P := P) (G := G) h0 h1
  try simp (config := {decide := false}) only [wd, jr, Nat.reduceAdd, Nat.reduceMul, Nat.reduceMod, Nat.reduceDiv, Nat.reduceLT, Nat.reduceSub, ↓reduceIte, forall_const, true_implies, kb_1689 hm, kb_1690 hm] at e
  exact e h0
theorem k_1691 {a bc de hl ix sp : Nat} {f : Int32} {m : Nat → Nat} {P : PT} {G : GE} (hm : KM m) (h0 : sp + 2 < 65536) : RL G a f bc de hl ix sp 1691 m P = RL G a f (wd m sp) de hl ix (sp + 2) 1692 m P := by
  have e := fun (h0 : sp + 2 < 65536) => rl_C1 (pc := 1691) (kb_1691 hm) (by decide) (a := a) (f := f) (bc := bc) (de := de) (hl := hl) (ix := ix) (sp := sp) (P := P) (G := G) h0
  try simp (config := {decide := false}) only [wd, jr, Nat.reduceAdd, Nat.reduceMul, Nat.reduceMod, Nat.reduceDiv, Nat.reduceLT, Nat.reduceSub, ↓reduceIte, forall_const, true_implies] at e
  exact e h0
theorem k_1692 {a bc de hl ix sp : Nat} {f : Int32} {m : Nat → Nat} {P : PT} {G : GE} (hm : KM m) (h0 : sp + 2 < 65536) : RL G a f bc de hl ix sp 1692 m P = RL G a f bc de (wd m sp) ix (sp + 2) 1693 m P := by
  have e := fun (h0 : sp + 2 < 65536) => rl_E1 (pc := 1692) (kb_1692 hm) (by decide) (a := a) (f := f) (bc := bc) (de := de) (hl := hl) (ix := ix) (sp := sp) (P := P) (G := G) h0
  try simp (config := {decide := false}) only [wd, jr, Nat.reduceAdd, Nat.reduceMul, Nat.reduceMod, Nat.reduceDiv, Nat.reduceLT, Nat.reduceSub, ↓reduceIte, forall_const, true_implies] at e
  exact e h0
theorem k_1693 {a bc de hl ix sp : Nat} {f : Int32} {m : Nat → Nat} {P : PT} {G : GE} (hm : KM m) (h0 : hl < 65536) : RL G a f bc de hl ix sp 1693 m P = RL G (rd m hl) f bc de hl ix sp 1694 m P := by
  have e := fun (h0 : hl < 65536) => rl_7E (pc := 1693) (kb_1693 hm) (by decide) (a := a) (f := f) (bc := bc) (de := de) (hl := hl) (ix := ix) (sp := sp) (P := P) (G := G) h0
  try simp (config := {decide := false}) only [wd, jr, Nat.reduceAdd, Nat.reduceMul, Nat.reduceMod, Nat.reduceDiv, Nat.reduceLT, Nat.reduceSub, ↓reduceIte, forall_const, true_implies] at e
  exact e h0
theorem k_1694 {a bc de hl ix sp : Nat} {f : Int32} {m : Nat → Nat} {P : PT} {G : GE} (hm : KM m) (h0 : hl < 65536) : RL G a f bc de hl ix sp 1694 m P = RL G a f bc de ((hl + 1) % 65536) ix sp 1695 m P := by
  have e := fun (h0 : hl < 65536) => rl_23 (pc := 1694) (kb_1694 hm) (by decide) (a := a) (f := f) (bc := bc) (de := de) (hl := hl) (ix := ix) (sp := sp) (P := P) (G := G) h0
  try simp (config := {decide := false}) only [wd, jr, Nat.reduceAdd, Nat.reduceMul, Nat.reduceMod, Nat.reduceDiv, Nat.reduceLT, Nat.reduceSub, ↓reduceIte, forall_const, true_implies] at e
  exact e h0
theorem k_1695 {a bc de hl ix sp : Nat} {f : Int32} {m : Nat → Nat} {P : PT} {G : GE} (hm : KM m) (h0 : hl < 65536) (h1 : de < 65536) : RL G a f bc de hl ix sp 1695 m P = RL G a f bc (de / 256 * 256 + (rd m hl)) hl ix sp 1696 m P := by
  have e := fun (h0 : hl < 65536) (h1 : de < 65536) => rl_5E (pc := 1695) (kb_1695 hm) (by decide) (a := a) (f := f) (bc := bc) (de := de) (hl := hl) (ix := ix) (sp := sp) (P := P) (G := G) h0 h1
  try simp (config := {decide := false}) only [wd, jr, Nat.reduceAdd, Nat.reduceMul, Nat.reduceMod, Nat.reduceDiv, Nat.reduceLT, Nat.reduceSub, ↓reduceIte, forall_const, true_implies] at e
  exact e h0 h1
theorem k_1696 {a bc de hl ix sp : Nat} {f : Int32} {m : Nat → Nat} {P : PT} {G : GE} (hm : KM m) (h0 : hl < 65536) : RL G a f bc de hl ix sp 1696 m P = RL G a f bc de ((hl + 1) % 65536) ix sp 1697 m P := by
  have e := fun (h0 : hl < 65536) => rl_23 (pc := 1696) (kb_1696 hm) (by decide) (a := a) (f := f) (bc := bc) (de := de) (hl := hl) (ix := ix) (sp := sp) (P := P) (G := G) h0
  try simp (config := {decide := false}) only [wd, jr, Nat.reduceAdd, Nat.reduceMul, Nat.reduceMod, Nat.reduceDiv, Nat.reduceLT, Nat.reduceSub, ↓reduceIte, forall_const, true_implies] at e
  exact e h0
theorem k_1697 {a bc de hl ix sp : Nat} {f : Int32} {m : Nat → Nat} {P : PT} {G : GE} (hm : KM m) (h0 : hl < 65536) (h1 : de < 65536) : RL G a f bc de hl ix sp 1697 m P = RL G a f bc ((rd m hl) * 256 + de % 256) hl ix sp 1698 m P := by
  have e := fun (h0 : hl < 65536) (h1 : de < 65536) => rl_56 (pc := 1697) (kb_1697 hm) (by decide) (a := a) (f := f) (bc := bc) (de := de) (hl := hl) (ix := ix) (sp := sp) (P := P) (G := G) h0 h1
  try simp (config := {decide := false}) only [wd, jr, Nat.reduceAdd, Nat.reduceMul, Nat.reduceMod, Nat.reduceDiv, Nat.reduceLT, Nat.reduceSub, ↓reduceIte, forall_const, true_implies] at e
  exact e h0 h1
theorem k_1698 {a bc de hl ix sp : Nat} {f : Int32} {m : Nat → Nat} {P : PT} {G : GE} (hm : KM m) (h0 : hl < 65536) : RL G a f bc de hl ix sp 1698 m P = RL G a f bc de ((hl + 1) % 65536) ix sp 1699 m P := by
  have e := fun (h0 : hl < 65536) => rl_23 (pc := 1698) (kb_1698 hm) (by decide) (a := a) (f := f) (bc := bc) (de := de) (hl := hl) (ix := ix) (sp := sp) (P := P) (G := G) h0
  try simp (config := {decide := false}) only [wd, jr, Nat.reduceAdd, Nat.reduceMul, Nat.reduceMod, Nat.reduceDiv, Nat.reduceLT, Nat.reduceSub, ↓reduceIte, forall_const, true_implies] at e
  exact e h0
theorem k_1699 {a bc de hl ix sp : Nat} {f : Int32} {m : Nat → Nat} {P : PT} {G : GE} (hm : KM m) (h0 : 2 ≤ sp) (h1 : sp < 65536) (h2 : hl < 65536) : RL G a f bc de hl ix sp 1699 m P = RL G a f bc de hl ix (sp - 2) 1700 (up (up m (sp - 1) (hl / 256)) (sp - 2) hl) P := by
  have e := fun (h0 : 2 ≤ sp) (h1 : sp < 65536) (h2 : hl < 65536) => rl_E5 (pc := 1699) (kb_1699 hm) (by decide) (a := a) (f := f) (bc := bc) (de := de) (hl := hl) (ix := ix) (sp := sp) (P := P) (G := G) h0 h1 h2
  try simp (config := {decide := false}) only [wd, jr, Nat.reduceAdd, Nat.reduceMul, Nat.reduceMod, Nat.reduceDiv, Nat.reduceLT, Nat.reduceSub, ↓reduceIte, forall_const, true_implies] at e
  exact e h0 h1 h2
theorem k_1700 {a bc de hl ix sp : Nat} {f : Int32} {m : Nat → Nat} {P : PT} {G : GE} (hm : KM m) (h0 : 2 ≤ sp) (h1 : sp < 65536) (h2 : de < 65536) : RL G a f bc de hl ix sp 1700 m P = RL G a f bc de hl ix (sp - 2) 1701 (up (up m (sp - 1) (de / 256)) (sp - 2) de) P := by
  have e := fun (h0 : 2 ≤ sp) (h1 : sp < 65536) (h2 : de < 65536) => rl_D5 (pc := 1700) (kb_1700 hm) (by decide) (a := a) (f := f) (bc := bc) (de := de) (hl := hl) (ix := ix) (sp := sp) (P := P) (G := G) h0 h1 h2
  try simp (config := {decide := false}) only [wd, jr, Nat.reduceAdd, Nat.reduceMul, Nat.reduceMod, Nat.reduceDiv, Nat.reduceLT, Nat.reduceSub, ↓reduceIte, forall_const, true_implies] at e
  exact e h0 h1 h2
theorem k_1701 {a bc de hl ix sp : Nat} {f : Int32} {m : Nat → Nat} {P : PT} {G : GE} (hm : KM m) (h0 : 2 ≤ sp) (h1 : sp < 65536) (h2 : bc < 65536) : RL G a f bc de hl ix sp 1701 m P = RL G a f bc de hl ix (sp - 2) 1702 (up (up m (sp - 1) (bc / 256)) (sp - 2) bc) P := by
  have e := fun (h0 : 2 ≤ sp) (h1 : sp < 65536) (h2 : bc < 65536) => rl_C5 (pc := 1701) (kb_1701 hm) (by decide) (a := a) (f := f) (bc := bc) (de := de) (hl := hl) (ix := ix) (sp := sp) (P := P) (G := G) h0 h1 h2
  try simp (config := {decide := false}) only [wd, jr, Nat.reduceAdd, Nat.reduceMul, Nat.reduceMod, Nat.reduceDiv, Nat.reduceLT, Nat.reduceSub, ↓reduceIte, forall_const, true_implies] at e
  exact e h0 h1 h2
theorem k_1702 {a bc de hl ix sp : Nat} {f : Int32} {m : Nat → Nat} {P : PT} {G : GE} (hm : KM m) (h0 : sp + 2 < 65536) : RL G a f bc de hl ix sp 1702 m P = RL G a f bc de hl ix (sp + 2) (wd m sp) m P := by
  have e := fun (h0 : sp + 2 < 65536) => rl_C9 (pc := 1702) (kb_1702 hm) (by decide) (a := a) (f := f) (bc := bc) (de := de) (hl := hl) (ix := ix) (sp := sp) (P := P) (G := G) h0
  try simp (config := {decide := false}) only [wd, jr, Nat.reduceAdd, Nat.reduceMul, Nat.reduceMod, Nat.reduceDiv, Nat.reduceLT, Nat.reduceSub, ↓reduceIte, forall_const, true_implies] at e
  exact e h0
