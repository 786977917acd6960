/-! THE LAYOUT. L.1 r: the address of the role r; L.2 a: the colour of the address a (0 nothing, 1 frozen, else its role).
Roles: 3 the object, 100 + k what its field k holds, 140.. parts of full, ways, joint, 151..154 the arrays of the four lists, 160 + f, 170 + f joint's Starts and their rows, 300 + w wordings, 400 + e events, 1000 + 64 e + 8 f + j, 4000 + 8 c + j, 5000 + 8 p + j -/
abbrev Ly : Type := (Nat → Nat) × (Nat → Nat)
abbrev G0 (G : CG) : Nat := G.2.2.2.1
abbrev GS (G : CG) (k : Nat) : Option Nat := G.2.2.2.2 k
def T0 : List (Nat × Nat × Nat) := [(3, 1, 0), (100, 104, 29), (101, 102, 4000), (109, 101, 6), (110, 101, 6), (111, 101, 6), (113, 2, 0), (114, 3, 0), (115, 4, 0), (116, 101, 40), (117, 101, 40), (118, 101, 400), (119, 101, 400), (120, 101, 400), (121, 101, 400), (124, 104, 100), (125, 101, 401), (127, 101, 5), (128, 104, 1601), (129, 104, 1601), (130, 104, 1601), (140, 101, 8), (141, 103, 12), (142, 101, 8), (143, 101, 8), (144, 101, 2), (145, 102, 2000), (147, 101, 16), (148, 103, 2), (149, 101, 8), (160, 5, 0), (161, 5, 0), (162, 5, 0), (163, 5, 0), (164, 5, 0), (165, 5, 0), (166, 5, 0), (167, 5, 0), (170, 101, 1220), (171, 101, 1220), (172, 101, 1220), (173, 101, 1220), (174, 101, 1220), (175, 101, 1220), (176, 101, 1220), (177, 101, 1220)]
def R0 : List (Nat × Nat × Nat) := [(3, 0, 100), (3, 1, 101), (3, 5, 105), (3, 6, 106), (3, 7, 107), (3, 8, 108), (3, 9, 109), (3, 10, 110), (3, 11, 111), (3, 13, 113), (3, 14, 114), (3, 15, 115), (3, 16, 116), (3, 17, 117), (3, 18, 118), (3, 19, 119), (3, 20, 120), (3, 21, 121), (3, 24, 124), (3, 25, 125), (3, 27, 127), (3, 28, 128), (3, 29, 129), (3, 30, 130), (113, 40, 140), (113, 41, 141), (114, 81, 142), (114, 83, 143), (114, 84, 144), (114, 85, 145), (114, 86, 3), (115, 120, 146), (115, 123, 147), (115, 124, 148), (115, 126, 149), (115, 129, 3), (160, 160, 170), (161, 160, 171), (162, 160, 172), (163, 160, 173), (164, 160, 174), (165, 160, 175), (166, 160, 176), (167, 160, 177)]
/-- the statics: Sign's constants, the two empty arrays, the cache of small Longs -/
def St (G : CG) (u : Sg) : Prop := (∀ k, k < 6 → ∃ s, GS G k = some s ∧ s < G0 G ∧ zT u s = 23 + k) ∧ (∃ b, GS G 6 = some b ∧ b < G0 G ∧ zT u b = 105 ∧ zL u b = 0 ∧ ∀ i, zB u b i = none) ∧ (∃ b, GS G 7 = some b ∧ b < G0 G ∧ zT u b = 105 ∧ zL u b = 0 ∧ ∀ i, zB u b i = none) ∧ ∃ c, GS G 8 = some c ∧ c < G0 G ∧ zT u c = 106 ∧ zL u c = 256 ∧ ∀ k, k < 256 → ∃ x, zB u c k = some x ∧ x < G0 G ∧ zT u x = 29 ∧ zI u x 1120 = (k : Int) - 128
/-- a frozen list of n -/
def LF (L : Ly) (u : Sg) (a n : Nat) (el : Nat → Nat) : Prop := ∃ b, LA u a b n ∧ L.2 a = 1 ∧ L.2 b = 1 ∧ ∀ i, i < n → zB u b i = some (el i)
/-- a list that grows -/
def ML (G : CG) (u : Sg) (L : Ly) (r rb n : Nat) (el : Nat → Nat) : Prop := LA u (L.1 r) (L.1 rb) n ∧ LW G u (L.1 r) (L.1 rb) ∧ L.2 (L.1 r) = r ∧ (0 < zL u (L.1 rb) → L.2 (L.1 rb) = rb) ∧ ∀ i, i < n → zB u (L.1 rb) i = some (el i)
def Rt (G : CG) (u : Sg) (L : Ly) : Prop := (∀ q ∈ T0, zT u (L.1 q.1) = q.2.1 ∧ zL u (L.1 q.1) = q.2.2 ∧ L.2 (L.1 q.1) = q.1 ∧ G0 G ≤ L.1 q.1) ∧ (∀ q ∈ R0, zR u (L.1 q.1) q.2.1 = some (L.1 q.2.2)) ∧ (∀ a, L.2 a ≠ 0 → a < zN u) ∧ (∀ a, a < G0 G → L.2 a = 1) ∧ G0 G ≤ zN u ∧ St G u ∧ LF L u (L.1 146) 8 (fun f => L.1 (160 + f))

theorem rT3 {G : CG} {u : Sg} {L : Ly} (h : Rt G u L) : zT u (L.1 3) = 1 := (h.1 (3, 1, 0) (by decide)).1
theorem rC3 {G : CG} {u : Sg} {L : Ly} (h : Rt G u L) : L.2 (L.1 3) = 3 := (h.1 (3, 1, 0) (by decide)).2.2.1
theorem rG3 {G : CG} {u : Sg} {L : Ly} (h : Rt G u L) : G0 G ≤ L.1 3 := (h.1 (3, 1, 0) (by decide)).2.2.2
theorem rT100 {G : CG} {u : Sg} {L : Ly} (h : Rt G u L) : zT u (L.1 100) = 104 := (h.1 (100, 104, 29) (by decide)).1
theorem rL100 {G : CG} {u : Sg} {L : Ly} (h : Rt G u L) : zL u (L.1 100) = 29 := (h.1 (100, 104, 29) (by decide)).2.1
theorem rC100 {G : CG} {u : Sg} {L : Ly} (h : Rt G u L) : L.2 (L.1 100) = 100 := (h.1 (100, 104, 29) (by decide)).2.2.1
theorem rG100 {G : CG} {u : Sg} {L : Ly} (h : Rt G u L) : G0 G ≤ L.1 100 := (h.1 (100, 104, 29) (by decide)).2.2.2
theorem rT101 {G : CG} {u : Sg} {L : Ly} (h : Rt G u L) : zT u (L.1 101) = 102 := (h.1 (101, 102, 4000) (by decide)).1
theorem rL101 {G : CG} {u : Sg} {L : Ly} (h : Rt G u L) : zL u (L.1 101) = 4000 := (h.1 (101, 102, 4000) (by decide)).2.1
theorem rC101 {G : CG} {u : Sg} {L : Ly} (h : Rt G u L) : L.2 (L.1 101) = 101 := (h.1 (101, 102, 4000) (by decide)).2.2.1
theorem rG101 {G : CG} {u : Sg} {L : Ly} (h : Rt G u L) : G0 G ≤ L.1 101 := (h.1 (101, 102, 4000) (by decide)).2.2.2
theorem rT109 {G : CG} {u : Sg} {L : Ly} (h : Rt G u L) : zT u (L.1 109) = 101 := (h.1 (109, 101, 6) (by decide)).1
theorem rL109 {G : CG} {u : Sg} {L : Ly} (h : Rt G u L) : zL u (L.1 109) = 6 := (h.1 (109, 101, 6) (by decide)).2.1
theorem rC109 {G : CG} {u : Sg} {L : Ly} (h : Rt G u L) : L.2 (L.1 109) = 109 := (h.1 (109, 101, 6) (by decide)).2.2.1
theorem rG109 {G : CG} {u : Sg} {L : Ly} (h : Rt G u L) : G0 G ≤ L.1 109 := (h.1 (109, 101, 6) (by decide)).2.2.2
theorem rT110 {G : CG} {u : Sg} {L : Ly} (h : Rt G u L) : zT u (L.1 110) = 101 := (h.1 (110, 101, 6) (by decide)).1
theorem rL110 {G : CG} {u : Sg} {L : Ly} (h : Rt G u L) : zL u (L.1 110) = 6 := (h.1 (110, 101, 6) (by decide)).2.1
theorem rC110 {G : CG} {u : Sg} {L : Ly} (h : Rt G u L) : L.2 (L.1 110) = 110 := (h.1 (110, 101, 6) (by decide)).2.2.1
theorem rG110 {G : CG} {u : Sg} {L : Ly} (h : Rt G u L) : G0 G ≤ L.1 110 := (h.1 (110, 101, 6) (by decide)).2.2.2
theorem rT111 {G : CG} {u : Sg} {L : Ly} (h : Rt G u L) : zT u (L.1 111) = 101 := (h.1 (111, 101, 6) (by decide)).1
theorem rL111 {G : CG} {u : Sg} {L : Ly} (h : Rt G u L) : zL u (L.1 111) = 6 := (h.1 (111, 101, 6) (by decide)).2.1
theorem rC111 {G : CG} {u : Sg} {L : Ly} (h : Rt G u L) : L.2 (L.1 111) = 111 := (h.1 (111, 101, 6) (by decide)).2.2.1
theorem rG111 {G : CG} {u : Sg} {L : Ly} (h : Rt G u L) : G0 G ≤ L.1 111 := (h.1 (111, 101, 6) (by decide)).2.2.2
theorem rT113 {G : CG} {u : Sg} {L : Ly} (h : Rt G u L) : zT u (L.1 113) = 2 := (h.1 (113, 2, 0) (by decide)).1
theorem rC113 {G : CG} {u : Sg} {L : Ly} (h : Rt G u L) : L.2 (L.1 113) = 113 := (h.1 (113, 2, 0) (by decide)).2.2.1
theorem rG113 {G : CG} {u : Sg} {L : Ly} (h : Rt G u L) : G0 G ≤ L.1 113 := (h.1 (113, 2, 0) (by decide)).2.2.2
theorem rT114 {G : CG} {u : Sg} {L : Ly} (h : Rt G u L) : zT u (L.1 114) = 3 := (h.1 (114, 3, 0) (by decide)).1
theorem rC114 {G : CG} {u : Sg} {L : Ly} (h : Rt G u L) : L.2 (L.1 114) = 114 := (h.1 (114, 3, 0) (by decide)).2.2.1
theorem rG114 {G : CG} {u : Sg} {L : Ly} (h : Rt G u L) : G0 G ≤ L.1 114 := (h.1 (114, 3, 0) (by decide)).2.2.2
theorem rT115 {G : CG} {u : Sg} {L : Ly} (h : Rt G u L) : zT u (L.1 115) = 4 := (h.1 (115, 4, 0) (by decide)).1
theorem rC115 {G : CG} {u : Sg} {L : Ly} (h : Rt G u L) : L.2 (L.1 115) = 115 := (h.1 (115, 4, 0) (by decide)).2.2.1
theorem rG115 {G : CG} {u : Sg} {L : Ly} (h : Rt G u L) : G0 G ≤ L.1 115 := (h.1 (115, 4, 0) (by decide)).2.2.2
theorem rT116 {G : CG} {u : Sg} {L : Ly} (h : Rt G u L) : zT u (L.1 116) = 101 := (h.1 (116, 101, 40) (by decide)).1
theorem rL116 {G : CG} {u : Sg} {L : Ly} (h : Rt G u L) : zL u (L.1 116) = 40 := (h.1 (116, 101, 40) (by decide)).2.1
theorem rC116 {G : CG} {u : Sg} {L : Ly} (h : Rt G u L) : L.2 (L.1 116) = 116 := (h.1 (116, 101, 40) (by decide)).2.2.1
theorem rG116 {G : CG} {u : Sg} {L : Ly} (h : Rt G u L) : G0 G ≤ L.1 116 := (h.1 (116, 101, 40) (by decide)).2.2.2
theorem rT117 {G : CG} {u : Sg} {L : Ly} (h : Rt G u L) : zT u (L.1 117) = 101 := (h.1 (117, 101, 40) (by decide)).1
theorem rL117 {G : CG} {u : Sg} {L : Ly} (h : Rt G u L) : zL u (L.1 117) = 40 := (h.1 (117, 101, 40) (by decide)).2.1
theorem rC117 {G : CG} {u : Sg} {L : Ly} (h : Rt G u L) : L.2 (L.1 117) = 117 := (h.1 (117, 101, 40) (by decide)).2.2.1
theorem rG117 {G : CG} {u : Sg} {L : Ly} (h : Rt G u L) : G0 G ≤ L.1 117 := (h.1 (117, 101, 40) (by decide)).2.2.2
theorem rT118 {G : CG} {u : Sg} {L : Ly} (h : Rt G u L) : zT u (L.1 118) = 101 := (h.1 (118, 101, 400) (by decide)).1
theorem rL118 {G : CG} {u : Sg} {L : Ly} (h : Rt G u L) : zL u (L.1 118) = 400 := (h.1 (118, 101, 400) (by decide)).2.1
theorem rC118 {G : CG} {u : Sg} {L : Ly} (h : Rt G u L) : L.2 (L.1 118) = 118 := (h.1 (118, 101, 400) (by decide)).2.2.1
theorem rG118 {G : CG} {u : Sg} {L : Ly} (h : Rt G u L) : G0 G ≤ L.1 118 := (h.1 (118, 101, 400) (by decide)).2.2.2
theorem rT119 {G : CG} {u : Sg} {L : Ly} (h : Rt G u L) : zT u (L.1 119) = 101 := (h.1 (119, 101, 400) (by decide)).1
theorem rL119 {G : CG} {u : Sg} {L : Ly} (h : Rt G u L) : zL u (L.1 119) = 400 := (h.1 (119, 101, 400) (by decide)).2.1
theorem rC119 {G : CG} {u : Sg} {L : Ly} (h : Rt G u L) : L.2 (L.1 119) = 119 := (h.1 (119, 101, 400) (by decide)).2.2.1
theorem rG119 {G : CG} {u : Sg} {L : Ly} (h : Rt G u L) : G0 G ≤ L.1 119 := (h.1 (119, 101, 400) (by decide)).2.2.2
theorem rT120 {G : CG} {u : Sg} {L : Ly} (h : Rt G u L) : zT u (L.1 120) = 101 := (h.1 (120, 101, 400) (by decide)).1
theorem rL120 {G : CG} {u : Sg} {L : Ly} (h : Rt G u L) : zL u (L.1 120) = 400 := (h.1 (120, 101, 400) (by decide)).2.1
theorem rC120 {G : CG} {u : Sg} {L : Ly} (h : Rt G u L) : L.2 (L.1 120) = 120 := (h.1 (120, 101, 400) (by decide)).2.2.1
theorem rG120 {G : CG} {u : Sg} {L : Ly} (h : Rt G u L) : G0 G ≤ L.1 120 := (h.1 (120, 101, 400) (by decide)).2.2.2
theorem rT121 {G : CG} {u : Sg} {L : Ly} (h : Rt G u L) : zT u (L.1 121) = 101 := (h.1 (121, 101, 400) (by decide)).1
theorem rL121 {G : CG} {u : Sg} {L : Ly} (h : Rt G u L) : zL u (L.1 121) = 400 := (h.1 (121, 101, 400) (by decide)).2.1
theorem rC121 {G : CG} {u : Sg} {L : Ly} (h : Rt G u L) : L.2 (L.1 121) = 121 := (h.1 (121, 101, 400) (by decide)).2.2.1
theorem rG121 {G : CG} {u : Sg} {L : Ly} (h : Rt G u L) : G0 G ≤ L.1 121 := (h.1 (121, 101, 400) (by decide)).2.2.2
theorem rT124 {G : CG} {u : Sg} {L : Ly} (h : Rt G u L) : zT u (L.1 124) = 104 := (h.1 (124, 104, 100) (by decide)).1
theorem rL124 {G : CG} {u : Sg} {L : Ly} (h : Rt G u L) : zL u (L.1 124) = 100 := (h.1 (124, 104, 100) (by decide)).2.1
theorem rC124 {G : CG} {u : Sg} {L : Ly} (h : Rt G u L) : L.2 (L.1 124) = 124 := (h.1 (124, 104, 100) (by decide)).2.2.1
theorem rG124 {G : CG} {u : Sg} {L : Ly} (h : Rt G u L) : G0 G ≤ L.1 124 := (h.1 (124, 104, 100) (by decide)).2.2.2
theorem rT125 {G : CG} {u : Sg} {L : Ly} (h : Rt G u L) : zT u (L.1 125) = 101 := (h.1 (125, 101, 401) (by decide)).1
theorem rL125 {G : CG} {u : Sg} {L : Ly} (h : Rt G u L) : zL u (L.1 125) = 401 := (h.1 (125, 101, 401) (by decide)).2.1
theorem rC125 {G : CG} {u : Sg} {L : Ly} (h : Rt G u L) : L.2 (L.1 125) = 125 := (h.1 (125, 101, 401) (by decide)).2.2.1
theorem rG125 {G : CG} {u : Sg} {L : Ly} (h : Rt G u L) : G0 G ≤ L.1 125 := (h.1 (125, 101, 401) (by decide)).2.2.2
theorem rT127 {G : CG} {u : Sg} {L : Ly} (h : Rt G u L) : zT u (L.1 127) = 101 := (h.1 (127, 101, 5) (by decide)).1
theorem rL127 {G : CG} {u : Sg} {L : Ly} (h : Rt G u L) : zL u (L.1 127) = 5 := (h.1 (127, 101, 5) (by decide)).2.1
theorem rC127 {G : CG} {u : Sg} {L : Ly} (h : Rt G u L) : L.2 (L.1 127) = 127 := (h.1 (127, 101, 5) (by decide)).2.2.1
theorem rG127 {G : CG} {u : Sg} {L : Ly} (h : Rt G u L) : G0 G ≤ L.1 127 := (h.1 (127, 101, 5) (by decide)).2.2.2
theorem rT128 {G : CG} {u : Sg} {L : Ly} (h : Rt G u L) : zT u (L.1 128) = 104 := (h.1 (128, 104, 1601) (by decide)).1
theorem rL128 {G : CG} {u : Sg} {L : Ly} (h : Rt G u L) : zL u (L.1 128) = 1601 := (h.1 (128, 104, 1601) (by decide)).2.1
theorem rC128 {G : CG} {u : Sg} {L : Ly} (h : Rt G u L) : L.2 (L.1 128) = 128 := (h.1 (128, 104, 1601) (by decide)).2.2.1
theorem rG128 {G : CG} {u : Sg} {L : Ly} (h : Rt G u L) : G0 G ≤ L.1 128 := (h.1 (128, 104, 1601) (by decide)).2.2.2
theorem rT129 {G : CG} {u : Sg} {L : Ly} (h : Rt G u L) : zT u (L.1 129) = 104 := (h.1 (129, 104, 1601) (by decide)).1
theorem rL129 {G : CG} {u : Sg} {L : Ly} (h : Rt G u L) : zL u (L.1 129) = 1601 := (h.1 (129, 104, 1601) (by decide)).2.1
theorem rC129 {G : CG} {u : Sg} {L : Ly} (h : Rt G u L) : L.2 (L.1 129) = 129 := (h.1 (129, 104, 1601) (by decide)).2.2.1
theorem rG129 {G : CG} {u : Sg} {L : Ly} (h : Rt G u L) : G0 G ≤ L.1 129 := (h.1 (129, 104, 1601) (by decide)).2.2.2
theorem rT130 {G : CG} {u : Sg} {L : Ly} (h : Rt G u L) : zT u (L.1 130) = 104 := (h.1 (130, 104, 1601) (by decide)).1
theorem rL130 {G : CG} {u : Sg} {L : Ly} (h : Rt G u L) : zL u (L.1 130) = 1601 := (h.1 (130, 104, 1601) (by decide)).2.1
theorem rC130 {G : CG} {u : Sg} {L : Ly} (h : Rt G u L) : L.2 (L.1 130) = 130 := (h.1 (130, 104, 1601) (by decide)).2.2.1
theorem rG130 {G : CG} {u : Sg} {L : Ly} (h : Rt G u L) : G0 G ≤ L.1 130 := (h.1 (130, 104, 1601) (by decide)).2.2.2
theorem rT140 {G : CG} {u : Sg} {L : Ly} (h : Rt G u L) : zT u (L.1 140) = 101 := (h.1 (140, 101, 8) (by decide)).1
theorem rL140 {G : CG} {u : Sg} {L : Ly} (h : Rt G u L) : zL u (L.1 140) = 8 := (h.1 (140, 101, 8) (by decide)).2.1
theorem rC140 {G : CG} {u : Sg} {L : Ly} (h : Rt G u L) : L.2 (L.1 140) = 140 := (h.1 (140, 101, 8) (by decide)).2.2.1
theorem rG140 {G : CG} {u : Sg} {L : Ly} (h : Rt G u L) : G0 G ≤ L.1 140 := (h.1 (140, 101, 8) (by decide)).2.2.2
theorem rT141 {G : CG} {u : Sg} {L : Ly} (h : Rt G u L) : zT u (L.1 141) = 103 := (h.1 (141, 103, 12) (by decide)).1
theorem rL141 {G : CG} {u : Sg} {L : Ly} (h : Rt G u L) : zL u (L.1 141) = 12 := (h.1 (141, 103, 12) (by decide)).2.1
theorem rC141 {G : CG} {u : Sg} {L : Ly} (h : Rt G u L) : L.2 (L.1 141) = 141 := (h.1 (141, 103, 12) (by decide)).2.2.1
theorem rG141 {G : CG} {u : Sg} {L : Ly} (h : Rt G u L) : G0 G ≤ L.1 141 := (h.1 (141, 103, 12) (by decide)).2.2.2
theorem rT142 {G : CG} {u : Sg} {L : Ly} (h : Rt G u L) : zT u (L.1 142) = 101 := (h.1 (142, 101, 8) (by decide)).1
theorem rL142 {G : CG} {u : Sg} {L : Ly} (h : Rt G u L) : zL u (L.1 142) = 8 := (h.1 (142, 101, 8) (by decide)).2.1
theorem rC142 {G : CG} {u : Sg} {L : Ly} (h : Rt G u L) : L.2 (L.1 142) = 142 := (h.1 (142, 101, 8) (by decide)).2.2.1
theorem rG142 {G : CG} {u : Sg} {L : Ly} (h : Rt G u L) : G0 G ≤ L.1 142 := (h.1 (142, 101, 8) (by decide)).2.2.2
theorem rT143 {G : CG} {u : Sg} {L : Ly} (h : Rt G u L) : zT u (L.1 143) = 101 := (h.1 (143, 101, 8) (by decide)).1
theorem rL143 {G : CG} {u : Sg} {L : Ly} (h : Rt G u L) : zL u (L.1 143) = 8 := (h.1 (143, 101, 8) (by decide)).2.1
theorem rC143 {G : CG} {u : Sg} {L : Ly} (h : Rt G u L) : L.2 (L.1 143) = 143 := (h.1 (143, 101, 8) (by decide)).2.2.1
theorem rG143 {G : CG} {u : Sg} {L : Ly} (h : Rt G u L) : G0 G ≤ L.1 143 := (h.1 (143, 101, 8) (by decide)).2.2.2
theorem rT144 {G : CG} {u : Sg} {L : Ly} (h : Rt G u L) : zT u (L.1 144) = 101 := (h.1 (144, 101, 2) (by decide)).1
theorem rL144 {G : CG} {u : Sg} {L : Ly} (h : Rt G u L) : zL u (L.1 144) = 2 := (h.1 (144, 101, 2) (by decide)).2.1
theorem rC144 {G : CG} {u : Sg} {L : Ly} (h : Rt G u L) : L.2 (L.1 144) = 144 := (h.1 (144, 101, 2) (by decide)).2.2.1
theorem rG144 {G : CG} {u : Sg} {L : Ly} (h : Rt G u L) : G0 G ≤ L.1 144 := (h.1 (144, 101, 2) (by decide)).2.2.2
theorem rT145 {G : CG} {u : Sg} {L : Ly} (h : Rt G u L) : zT u (L.1 145) = 102 := (h.1 (145, 102, 2000) (by decide)).1
theorem rL145 {G : CG} {u : Sg} {L : Ly} (h : Rt G u L) : zL u (L.1 145) = 2000 := (h.1 (145, 102, 2000) (by decide)).2.1
theorem rC145 {G : CG} {u : Sg} {L : Ly} (h : Rt G u L) : L.2 (L.1 145) = 145 := (h.1 (145, 102, 2000) (by decide)).2.2.1
theorem rG145 {G : CG} {u : Sg} {L : Ly} (h : Rt G u L) : G0 G ≤ L.1 145 := (h.1 (145, 102, 2000) (by decide)).2.2.2
theorem rT147 {G : CG} {u : Sg} {L : Ly} (h : Rt G u L) : zT u (L.1 147) = 101 := (h.1 (147, 101, 16) (by decide)).1
theorem rL147 {G : CG} {u : Sg} {L : Ly} (h : Rt G u L) : zL u (L.1 147) = 16 := (h.1 (147, 101, 16) (by decide)).2.1
theorem rC147 {G : CG} {u : Sg} {L : Ly} (h : Rt G u L) : L.2 (L.1 147) = 147 := (h.1 (147, 101, 16) (by decide)).2.2.1
theorem rG147 {G : CG} {u : Sg} {L : Ly} (h : Rt G u L) : G0 G ≤ L.1 147 := (h.1 (147, 101, 16) (by decide)).2.2.2
theorem rT148 {G : CG} {u : Sg} {L : Ly} (h : Rt G u L) : zT u (L.1 148) = 103 := (h.1 (148, 103, 2) (by decide)).1
theorem rL148 {G : CG} {u : Sg} {L : Ly} (h : Rt G u L) : zL u (L.1 148) = 2 := (h.1 (148, 103, 2) (by decide)).2.1
theorem rC148 {G : CG} {u : Sg} {L : Ly} (h : Rt G u L) : L.2 (L.1 148) = 148 := (h.1 (148, 103, 2) (by decide)).2.2.1
theorem rG148 {G : CG} {u : Sg} {L : Ly} (h : Rt G u L) : G0 G ≤ L.1 148 := (h.1 (148, 103, 2) (by decide)).2.2.2
theorem rT149 {G : CG} {u : Sg} {L : Ly} (h : Rt G u L) : zT u (L.1 149) = 101 := (h.1 (149, 101, 8) (by decide)).1
theorem rL149 {G : CG} {u : Sg} {L : Ly} (h : Rt G u L) : zL u (L.1 149) = 8 := (h.1 (149, 101, 8) (by decide)).2.1
theorem rC149 {G : CG} {u : Sg} {L : Ly} (h : Rt G u L) : L.2 (L.1 149) = 149 := (h.1 (149, 101, 8) (by decide)).2.2.1
theorem rG149 {G : CG} {u : Sg} {L : Ly} (h : Rt G u L) : G0 G ≤ L.1 149 := (h.1 (149, 101, 8) (by decide)).2.2.2
theorem rT160 {G : CG} {u : Sg} {L : Ly} (h : Rt G u L) : zT u (L.1 160) = 5 := (h.1 (160, 5, 0) (by decide)).1
theorem rC160 {G : CG} {u : Sg} {L : Ly} (h : Rt G u L) : L.2 (L.1 160) = 160 := (h.1 (160, 5, 0) (by decide)).2.2.1
theorem rG160 {G : CG} {u : Sg} {L : Ly} (h : Rt G u L) : G0 G ≤ L.1 160 := (h.1 (160, 5, 0) (by decide)).2.2.2
theorem rT161 {G : CG} {u : Sg} {L : Ly} (h : Rt G u L) : zT u (L.1 161) = 5 := (h.1 (161, 5, 0) (by decide)).1
theorem rC161 {G : CG} {u : Sg} {L : Ly} (h : Rt G u L) : L.2 (L.1 161) = 161 := (h.1 (161, 5, 0) (by decide)).2.2.1
theorem rG161 {G : CG} {u : Sg} {L : Ly} (h : Rt G u L) : G0 G ≤ L.1 161 := (h.1 (161, 5, 0) (by decide)).2.2.2
theorem rT162 {G : CG} {u : Sg} {L : Ly} (h : Rt G u L) : zT u (L.1 162) = 5 := (h.1 (162, 5, 0) (by decide)).1
theorem rC162 {G : CG} {u : Sg} {L : Ly} (h : Rt G u L) : L.2 (L.1 162) = 162 := (h.1 (162, 5, 0) (by decide)).2.2.1
theorem rG162 {G : CG} {u : Sg} {L : Ly} (h : Rt G u L) : G0 G ≤ L.1 162 := (h.1 (162, 5, 0) (by decide)).2.2.2
theorem rT163 {G : CG} {u : Sg} {L : Ly} (h : Rt G u L) : zT u (L.1 163) = 5 := (h.1 (163, 5, 0) (by decide)).1
theorem rC163 {G : CG} {u : Sg} {L : Ly} (h : Rt G u L) : L.2 (L.1 163) = 163 := (h.1 (163, 5, 0) (by decide)).2.2.1
theorem rG163 {G : CG} {u : Sg} {L : Ly} (h : Rt G u L) : G0 G ≤ L.1 163 := (h.1 (163, 5, 0) (by decide)).2.2.2
theorem rT164 {G : CG} {u : Sg} {L : Ly} (h : Rt G u L) : zT u (L.1 164) = 5 := (h.1 (164, 5, 0) (by decide)).1
theorem rC164 {G : CG} {u : Sg} {L : Ly} (h : Rt G u L) : L.2 (L.1 164) = 164 := (h.1 (164, 5, 0) (by decide)).2.2.1
theorem rG164 {G : CG} {u : Sg} {L : Ly} (h : Rt G u L) : G0 G ≤ L.1 164 := (h.1 (164, 5, 0) (by decide)).2.2.2
theorem rT165 {G : CG} {u : Sg} {L : Ly} (h : Rt G u L) : zT u (L.1 165) = 5 := (h.1 (165, 5, 0) (by decide)).1
theorem rC165 {G : CG} {u : Sg} {L : Ly} (h : Rt G u L) : L.2 (L.1 165) = 165 := (h.1 (165, 5, 0) (by decide)).2.2.1
theorem rG165 {G : CG} {u : Sg} {L : Ly} (h : Rt G u L) : G0 G ≤ L.1 165 := (h.1 (165, 5, 0) (by decide)).2.2.2
theorem rT166 {G : CG} {u : Sg} {L : Ly} (h : Rt G u L) : zT u (L.1 166) = 5 := (h.1 (166, 5, 0) (by decide)).1
theorem rC166 {G : CG} {u : Sg} {L : Ly} (h : Rt G u L) : L.2 (L.1 166) = 166 := (h.1 (166, 5, 0) (by decide)).2.2.1
theorem rG166 {G : CG} {u : Sg} {L : Ly} (h : Rt G u L) : G0 G ≤ L.1 166 := (h.1 (166, 5, 0) (by decide)).2.2.2
theorem rT167 {G : CG} {u : Sg} {L : Ly} (h : Rt G u L) : zT u (L.1 167) = 5 := (h.1 (167, 5, 0) (by decide)).1
theorem rC167 {G : CG} {u : Sg} {L : Ly} (h : Rt G u L) : L.2 (L.1 167) = 167 := (h.1 (167, 5, 0) (by decide)).2.2.1
theorem rG167 {G : CG} {u : Sg} {L : Ly} (h : Rt G u L) : G0 G ≤ L.1 167 := (h.1 (167, 5, 0) (by decide)).2.2.2
theorem rT170 {G : CG} {u : Sg} {L : Ly} (h : Rt G u L) : zT u (L.1 170) = 101 := (h.1 (170, 101, 1220) (by decide)).1
theorem rL170 {G : CG} {u : Sg} {L : Ly} (h : Rt G u L) : zL u (L.1 170) = 1220 := (h.1 (170, 101, 1220) (by decide)).2.1
theorem rC170 {G : CG} {u : Sg} {L : Ly} (h : Rt G u L) : L.2 (L.1 170) = 170 := (h.1 (170, 101, 1220) (by decide)).2.2.1
theorem rG170 {G : CG} {u : Sg} {L : Ly} (h : Rt G u L) : G0 G ≤ L.1 170 := (h.1 (170, 101, 1220) (by decide)).2.2.2
theorem rT171 {G : CG} {u : Sg} {L : Ly} (h : Rt G u L) : zT u (L.1 171) = 101 := (h.1 (171, 101, 1220) (by decide)).1
theorem rL171 {G : CG} {u : Sg} {L : Ly} (h : Rt G u L) : zL u (L.1 171) = 1220 := (h.1 (171, 101, 1220) (by decide)).2.1
theorem rC171 {G : CG} {u : Sg} {L : Ly} (h : Rt G u L) : L.2 (L.1 171) = 171 := (h.1 (171, 101, 1220) (by decide)).2.2.1
theorem rG171 {G : CG} {u : Sg} {L : Ly} (h : Rt G u L) : G0 G ≤ L.1 171 := (h.1 (171, 101, 1220) (by decide)).2.2.2
theorem rT172 {G : CG} {u : Sg} {L : Ly} (h : Rt G u L) : zT u (L.1 172) = 101 := (h.1 (172, 101, 1220) (by decide)).1
theorem rL172 {G : CG} {u : Sg} {L : Ly} (h : Rt G u L) : zL u (L.1 172) = 1220 := (h.1 (172, 101, 1220) (by decide)).2.1
theorem rC172 {G : CG} {u : Sg} {L : Ly} (h : Rt G u L) : L.2 (L.1 172) = 172 := (h.1 (172, 101, 1220) (by decide)).2.2.1
theorem rG172 {G : CG} {u : Sg} {L : Ly} (h : Rt G u L) : G0 G ≤ L.1 172 := (h.1 (172, 101, 1220) (by decide)).2.2.2
theorem rT173 {G : CG} {u : Sg} {L : Ly} (h : Rt G u L) : zT u (L.1 173) = 101 := (h.1 (173, 101, 1220) (by decide)).1
theorem rL173 {G : CG} {u : Sg} {L : Ly} (h : Rt G u L) : zL u (L.1 173) = 1220 := (h.1 (173, 101, 1220) (by decide)).2.1
theorem rC173 {G : CG} {u : Sg} {L : Ly} (h : Rt G u L) : L.2 (L.1 173) = 173 := (h.1 (173, 101, 1220) (by decide)).2.2.1
theorem rG173 {G : CG} {u : Sg} {L : Ly} (h : Rt G u L) : G0 G ≤ L.1 173 := (h.1 (173, 101, 1220) (by decide)).2.2.2
theorem rT174 {G : CG} {u : Sg} {L : Ly} (h : Rt G u L) : zT u (L.1 174) = 101 := (h.1 (174, 101, 1220) (by decide)).1
theorem rL174 {G : CG} {u : Sg} {L : Ly} (h : Rt G u L) : zL u (L.1 174) = 1220 := (h.1 (174, 101, 1220) (by decide)).2.1
theorem rC174 {G : CG} {u : Sg} {L : Ly} (h : Rt G u L) : L.2 (L.1 174) = 174 := (h.1 (174, 101, 1220) (by decide)).2.2.1
theorem rG174 {G : CG} {u : Sg} {L : Ly} (h : Rt G u L) : G0 G ≤ L.1 174 := (h.1 (174, 101, 1220) (by decide)).2.2.2
theorem rT175 {G : CG} {u : Sg} {L : Ly} (h : Rt G u L) : zT u (L.1 175) = 101 := (h.1 (175, 101, 1220) (by decide)).1
theorem rL175 {G : CG} {u : Sg} {L : Ly} (h : Rt G u L) : zL u (L.1 175) = 1220 := (h.1 (175, 101, 1220) (by decide)).2.1
theorem rC175 {G : CG} {u : Sg} {L : Ly} (h : Rt G u L) : L.2 (L.1 175) = 175 := (h.1 (175, 101, 1220) (by decide)).2.2.1
theorem rG175 {G : CG} {u : Sg} {L : Ly} (h : Rt G u L) : G0 G ≤ L.1 175 := (h.1 (175, 101, 1220) (by decide)).2.2.2
theorem rT176 {G : CG} {u : Sg} {L : Ly} (h : Rt G u L) : zT u (L.1 176) = 101 := (h.1 (176, 101, 1220) (by decide)).1
theorem rL176 {G : CG} {u : Sg} {L : Ly} (h : Rt G u L) : zL u (L.1 176) = 1220 := (h.1 (176, 101, 1220) (by decide)).2.1
theorem rC176 {G : CG} {u : Sg} {L : Ly} (h : Rt G u L) : L.2 (L.1 176) = 176 := (h.1 (176, 101, 1220) (by decide)).2.2.1
theorem rG176 {G : CG} {u : Sg} {L : Ly} (h : Rt G u L) : G0 G ≤ L.1 176 := (h.1 (176, 101, 1220) (by decide)).2.2.2
theorem rT177 {G : CG} {u : Sg} {L : Ly} (h : Rt G u L) : zT u (L.1 177) = 101 := (h.1 (177, 101, 1220) (by decide)).1
theorem rL177 {G : CG} {u : Sg} {L : Ly} (h : Rt G u L) : zL u (L.1 177) = 1220 := (h.1 (177, 101, 1220) (by decide)).2.1
theorem rC177 {G : CG} {u : Sg} {L : Ly} (h : Rt G u L) : L.2 (L.1 177) = 177 := (h.1 (177, 101, 1220) (by decide)).2.2.1
theorem rG177 {G : CG} {u : Sg} {L : Ly} (h : Rt G u L) : G0 G ≤ L.1 177 := (h.1 (177, 101, 1220) (by decide)).2.2.2
theorem rR3_0 {G : CG} {u : Sg} {L : Ly} (h : Rt G u L) : zR u (L.1 3) 0 = some (L.1 100) := h.2.1 (3, 0, 100) (by decide)
theorem rR3_1 {G : CG} {u : Sg} {L : Ly} (h : Rt G u L) : zR u (L.1 3) 1 = some (L.1 101) := h.2.1 (3, 1, 101) (by decide)
theorem rR3_5 {G : CG} {u : Sg} {L : Ly} (h : Rt G u L) : zR u (L.1 3) 5 = some (L.1 105) := h.2.1 (3, 5, 105) (by decide)
theorem rR3_6 {G : CG} {u : Sg} {L : Ly} (h : Rt G u L) : zR u (L.1 3) 6 = some (L.1 106) := h.2.1 (3, 6, 106) (by decide)
theorem rR3_7 {G : CG} {u : Sg} {L : Ly} (h : Rt G u L) : zR u (L.1 3) 7 = some (L.1 107) := h.2.1 (3, 7, 107) (by decide)
theorem rR3_8 {G : CG} {u : Sg} {L : Ly} (h : Rt G u L) : zR u (L.1 3) 8 = some (L.1 108) := h.2.1 (3, 8, 108) (by decide)
theorem rR3_9 {G : CG} {u : Sg} {L : Ly} (h : Rt G u L) : zR u (L.1 3) 9 = some (L.1 109) := h.2.1 (3, 9, 109) (by decide)
theorem rR3_10 {G : CG} {u : Sg} {L : Ly} (h : Rt G u L) : zR u (L.1 3) 10 = some (L.1 110) := h.2.1 (3, 10, 110) (by decide)
theorem rR3_11 {G : CG} {u : Sg} {L : Ly} (h : Rt G u L) : zR u (L.1 3) 11 = some (L.1 111) := h.2.1 (3, 11, 111) (by decide)
theorem rR3_13 {G : CG} {u : Sg} {L : Ly} (h : Rt G u L) : zR u (L.1 3) 13 = some (L.1 113) := h.2.1 (3, 13, 113) (by decide)
theorem rR3_14 {G : CG} {u : Sg} {L : Ly} (h : Rt G u L) : zR u (L.1 3) 14 = some (L.1 114) := h.2.1 (3, 14, 114) (by decide)
theorem rR3_15 {G : CG} {u : Sg} {L : Ly} (h : Rt G u L) : zR u (L.1 3) 15 = some (L.1 115) := h.2.1 (3, 15, 115) (by decide)
theorem rR3_16 {G : CG} {u : Sg} {L : Ly} (h : Rt G u L) : zR u (L.1 3) 16 = some (L.1 116) := h.2.1 (3, 16, 116) (by decide)
theorem rR3_17 {G : CG} {u : Sg} {L : Ly} (h : Rt G u L) : zR u (L.1 3) 17 = some (L.1 117) := h.2.1 (3, 17, 117) (by decide)
theorem rR3_18 {G : CG} {u : Sg} {L : Ly} (h : Rt G u L) : zR u (L.1 3) 18 = some (L.1 118) := h.2.1 (3, 18, 118) (by decide)
theorem rR3_19 {G : CG} {u : Sg} {L : Ly} (h : Rt G u L) : zR u (L.1 3) 19 = some (L.1 119) := h.2.1 (3, 19, 119) (by decide)
theorem rR3_20 {G : CG} {u : Sg} {L : Ly} (h : Rt G u L) : zR u (L.1 3) 20 = some (L.1 120) := h.2.1 (3, 20, 120) (by decide)
theorem rR3_21 {G : CG} {u : Sg} {L : Ly} (h : Rt G u L) : zR u (L.1 3) 21 = some (L.1 121) := h.2.1 (3, 21, 121) (by decide)
theorem rR3_24 {G : CG} {u : Sg} {L : Ly} (h : Rt G u L) : zR u (L.1 3) 24 = some (L.1 124) := h.2.1 (3, 24, 124) (by decide)
theorem rR3_25 {G : CG} {u : Sg} {L : Ly} (h : Rt G u L) : zR u (L.1 3) 25 = some (L.1 125) := h.2.1 (3, 25, 125) (by decide)
theorem rR3_27 {G : CG} {u : Sg} {L : Ly} (h : Rt G u L) : zR u (L.1 3) 27 = some (L.1 127) := h.2.1 (3, 27, 127) (by decide)
theorem rR3_28 {G : CG} {u : Sg} {L : Ly} (h : Rt G u L) : zR u (L.1 3) 28 = some (L.1 128) := h.2.1 (3, 28, 128) (by decide)
theorem rR3_29 {G : CG} {u : Sg} {L : Ly} (h : Rt G u L) : zR u (L.1 3) 29 = some (L.1 129) := h.2.1 (3, 29, 129) (by decide)
theorem rR3_30 {G : CG} {u : Sg} {L : Ly} (h : Rt G u L) : zR u (L.1 3) 30 = some (L.1 130) := h.2.1 (3, 30, 130) (by decide)
theorem rR113_40 {G : CG} {u : Sg} {L : Ly} (h : Rt G u L) : zR u (L.1 113) 40 = some (L.1 140) := h.2.1 (113, 40, 140) (by decide)
theorem rR113_41 {G : CG} {u : Sg} {L : Ly} (h : Rt G u L) : zR u (L.1 113) 41 = some (L.1 141) := h.2.1 (113, 41, 141) (by decide)
theorem rR114_81 {G : CG} {u : Sg} {L : Ly} (h : Rt G u L) : zR u (L.1 114) 81 = some (L.1 142) := h.2.1 (114, 81, 142) (by decide)
theorem rR114_83 {G : CG} {u : Sg} {L : Ly} (h : Rt G u L) : zR u (L.1 114) 83 = some (L.1 143) := h.2.1 (114, 83, 143) (by decide)
theorem rR114_84 {G : CG} {u : Sg} {L : Ly} (h : Rt G u L) : zR u (L.1 114) 84 = some (L.1 144) := h.2.1 (114, 84, 144) (by decide)
theorem rR114_85 {G : CG} {u : Sg} {L : Ly} (h : Rt G u L) : zR u (L.1 114) 85 = some (L.1 145) := h.2.1 (114, 85, 145) (by decide)
theorem rR114_86 {G : CG} {u : Sg} {L : Ly} (h : Rt G u L) : zR u (L.1 114) 86 = some (L.1 3) := h.2.1 (114, 86, 3) (by decide)
theorem rR115_120 {G : CG} {u : Sg} {L : Ly} (h : Rt G u L) : zR u (L.1 115) 120 = some (L.1 146) := h.2.1 (115, 120, 146) (by decide)
theorem rR115_123 {G : CG} {u : Sg} {L : Ly} (h : Rt G u L) : zR u (L.1 115) 123 = some (L.1 147) := h.2.1 (115, 123, 147) (by decide)
theorem rR115_124 {G : CG} {u : Sg} {L : Ly} (h : Rt G u L) : zR u (L.1 115) 124 = some (L.1 148) := h.2.1 (115, 124, 148) (by decide)
theorem rR115_126 {G : CG} {u : Sg} {L : Ly} (h : Rt G u L) : zR u (L.1 115) 126 = some (L.1 149) := h.2.1 (115, 126, 149) (by decide)
theorem rR115_129 {G : CG} {u : Sg} {L : Ly} (h : Rt G u L) : zR u (L.1 115) 129 = some (L.1 3) := h.2.1 (115, 129, 3) (by decide)
theorem rR160_160 {G : CG} {u : Sg} {L : Ly} (h : Rt G u L) : zR u (L.1 160) 160 = some (L.1 170) := h.2.1 (160, 160, 170) (by decide)
theorem rR161_160 {G : CG} {u : Sg} {L : Ly} (h : Rt G u L) : zR u (L.1 161) 160 = some (L.1 171) := h.2.1 (161, 160, 171) (by decide)
theorem rR162_160 {G : CG} {u : Sg} {L : Ly} (h : Rt G u L) : zR u (L.1 162) 160 = some (L.1 172) := h.2.1 (162, 160, 172) (by decide)
theorem rR163_160 {G : CG} {u : Sg} {L : Ly} (h : Rt G u L) : zR u (L.1 163) 160 = some (L.1 173) := h.2.1 (163, 160, 173) (by decide)
theorem rR164_160 {G : CG} {u : Sg} {L : Ly} (h : Rt G u L) : zR u (L.1 164) 160 = some (L.1 174) := h.2.1 (164, 160, 174) (by decide)
theorem rR165_160 {G : CG} {u : Sg} {L : Ly} (h : Rt G u L) : zR u (L.1 165) 160 = some (L.1 175) := h.2.1 (165, 160, 175) (by decide)
theorem rR166_160 {G : CG} {u : Sg} {L : Ly} (h : Rt G u L) : zR u (L.1 166) 160 = some (L.1 176) := h.2.1 (166, 160, 176) (by decide)
theorem rR167_160 {G : CG} {u : Sg} {L : Ly} (h : Rt G u L) : zR u (L.1 167) 160 = some (L.1 177) := h.2.1 (167, 160, 177) (by decide)
/-- two roles that differ lie apart -/
theorem rne {L : Ly} {a b : Nat} {x y : Nat} (ha : L.2 a = x) (hb : L.2 b = y) (h : x ≠ y) : a ≠ b := fun q => h (by rw [← ha, ← hb, q])

