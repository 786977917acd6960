/-! THE CONSTRUCTOR of the class (printed by gen_ctor.py) -/
def DBN : List (Nat × Nat × Nat) := [(51, 104, 1601), (50, 104, 1601), (49, 104, 1601), (48, 101, 5), (47, 101, 401), (46, 104, 100), (45, 101, 400), (44, 101, 400), (43, 101, 400), (42, 101, 400), (41, 101, 40), (40, 101, 40), (39, 101, 1220), (38, 5, 0), (37, 101, 1220), (36, 5, 0), (35, 101, 1220), (34, 5, 0), (33, 101, 1220), (32, 5, 0), (31, 101, 1220), (30, 5, 0), (29, 101, 1220), (28, 5, 0), (27, 101, 1220), (26, 5, 0), (24, 101, 1220), (23, 5, 0), (22, 101, 8), (21, 103, 2), (20, 101, 16), (18, 4, 0), (17, 102, 2000), (16, 101, 2), (15, 101, 8), (14, 101, 8), (13, 3, 0), (12, 103, 12), (11, 101, 8), (10, 2, 0), (9, 101, 6), (8, 101, 6), (7, 101, 6), (2, 102, 4000), (1, 104, 29)]
def LNN : List (Nat × Nat × Nat) := [(0, 30, 51), (0, 29, 50), (0, 28, 49), (0, 27, 48), (0, 25, 47), (0, 24, 46), (0, 21, 45), (0, 20, 44), (0, 19, 43), (0, 18, 42), (0, 17, 41), (0, 16, 40), (0, 15, 18), (38, 160, 39), (36, 160, 37), (34, 160, 35), (32, 160, 33), (30, 160, 31), (28, 160, 29), (26, 160, 27), (23, 160, 24), (18, 126, 22), (18, 124, 21), (18, 123, 20), (18, 120, 19), (18, 129, 0), (0, 14, 13), (13, 85, 17), (13, 84, 16), (13, 83, 15), (13, 81, 14), (13, 86, 0), (0, 13, 10), (10, 41, 12), (10, 40, 11), (0, 11, 9), (0, 10, 8), (0, 9, 7), (0, 8, 6), (0, 7, 5), (0, 6, 4), (0, 5, 3), (0, 1, 2), (0, 0, 1)]
def KWN : List Int := [1717658484, 7955827, 7302757, 1718775661, 29807, 1835360622, 427071792498, 465557354085, 1650549611, 439855772532, 495672455781, 1836020596, 435778055796, 2036687218, 6384748, 1918989413, 499984983411, 1886156147, 491496238692, 465557353332, 26982, 28530, 6385252, 7237492, 126943972911973, 29676314707714404, 107118487239027, 474148660594, 7168377]
theorem DB_p {G : CG} {bE : Nat} {s0 s1 s1' : Sg} {B o : Nat} {t : Sg} {N : Nat} {db ln : List (Nat × Nat × Nat)} {lst : List Nat} {kw : List Int} {f3 : Int} (h : DB G bE s0 s1 B o t N db ln lst kw f3) (e : s1' = t) : DB G bE s0 s1' (o + N) o t N db ln lst kw f3 := by
  subst e
  obtain ⟨⟨a1, a2, a3, ⟨a4, a5, ag⟩, a6⟩, b⟩ := h
  exact ⟨⟨a1, a2, a3, ⟨Nat.le_refl _, fun _ _ _ => sam_rf, Or.inr gro_rf⟩, a6⟩, b⟩
theorem DB_R0 {G : CG} {bE : Nat} {s0 s1 : Sg} {B o : Nat} {t : Sg} {N : Nat} {db ln : List (Nat × Nat × Nat)} {lst : List Nat} {kw : List Int} {f3 : Int} (h : DB G bE s0 s1 B o t N db ln lst kw f3) (g k : Nat) (hp : 0 < N) (hf : ∀ x ∈ ln, ¬ (x.1 = 0 ∧ x.2.1 = g)) (hl : 0 ∉ lst) : DB G bE s0 s1 B o (zsR t o g (some (o + k))) N db ((0, g, k) :: ln) lst kw f3 := DB_R h 0 g k hp (Or.inl rfl) hf hl
set_option maxRecDepth 100000 in
theorem c_ctor {G : CG} {bE : Nat} {s0 t0 : Sg} {o : Nat} (D0 : DB G bE s0 s0 0 o t0 1 [] [] [] [] 0) : okU (f0_init G (some o) t0) 60 40000 (fun t => ∃ s1, DB G bE s0 s1 (o + 40) o t 52 DBN LNN [6, 5, 4, 3] KWN (-1) ∧ SPR G o s1 8) := by
  unfold f0_init
  rw [Option.bind_some]
  refine okU_nA2 29 rfl (by decide) (by omega) (by omega) ?_
  dsimp only
  have D := DB_new D0 104 29
  rw [D0.1.1]
  refine sKr D rfl rfl (by decide) (by decide) (fun t D => ?_)
  refine sKr D rfl rfl (by decide) (by decide) (fun t D => ?_)
  refine sKr D rfl rfl (by decide) (by decide) (fun t D => ?_)
  refine sKr D rfl rfl (by decide) (by decide) (fun t D => ?_)
  refine sKr D rfl rfl (by decide) (by decide) (fun t D => ?_)
  refine sKr D rfl rfl (by decide) (by decide) (fun t D => ?_)
  refine sKr D rfl rfl (by decide) (by decide) (fun t D => ?_)
  refine sKr D rfl rfl (by decide) (by decide) (fun t D => ?_)
  refine sKr D rfl rfl (by decide) (by decide) (fun t D => ?_)
  refine sKr D rfl rfl (by decide) (by decide) (fun t D => ?_)
  refine sKr D rfl rfl (by decide) (by decide) (fun t D => ?_)
  refine sKr D rfl rfl (by decide) (by decide) (fun t D => ?_)
  refine sKr D rfl rfl (by decide) (by decide) (fun t D => ?_)
  refine sKr D rfl rfl (by decide) (by decide) (fun t D => ?_)
  refine sKr D rfl rfl (by decide) (by decide) (fun t D => ?_)
  refine sKr D rfl rfl (by decide) (by decide) (fun t D => ?_)
  refine sKr D rfl rfl (by decide) (by decide) (fun t D => ?_)
  refine sKr D rfl rfl (by decide) (by decide) (fun t D => ?_)
  refine sKr D rfl rfl (by decide) (by decide) (fun t D => ?_)
  refine sKr D rfl rfl (by decide) (by decide) (fun t D => ?_)
  refine sKr D rfl rfl (by decide) (by decide) (fun t D => ?_)
  refine sKr D rfl rfl (by decide) (by decide) (fun t D => ?_)
  refine sKr D rfl rfl (by decide) (by decide) (fun t D => ?_)
  refine sKr D rfl rfl (by decide) (by decide) (fun t D => ?_)
  refine sKr D rfl rfl (by decide) (by decide) (fun t D => ?_)
  refine sKr D rfl rfl (by decide) (by decide) (fun t D => ?_)
  refine sKr D rfl rfl (by decide) (by decide) (fun t D => ?_)
  refine sKr D rfl rfl (by decide) (by decide) (fun t D => ?_)
  refine sKr D rfl rfl (by decide) (by decide) (fun t D => ?_)
  rw [pfR_e D.2.1.1 D.1.2.2.2.2.1, Option.bind_some]
  have D := DB_R0 D 0 1 (by decide) (by decide) (by decide)
  refine sAr D (p := 0) 4000 rfl (by decide) (by omega) (by omega) (by decide) D.2.1.1 (Or.inl rfl) (by decide) (by decide) (fun t D => ?_)
  rw [pfI_e D.2.1.1 D.1.2.2.2.2.1, Option.bind_some]
  have D := DB_I D (-1)
  refine sLr D (p := 0) (by omega) (by omega) (by decide) D.2.1.1 (Or.inl rfl) (by decide) (by decide) (fun t D => ?_)
  refine sLr D (p := 0) (by omega) (by omega) (by decide) D.2.1.1 (Or.inl rfl) (by decide) (by decide) (fun t D => ?_)
  refine sLr D (p := 0) (by omega) (by omega) (by decide) D.2.1.1 (Or.inl rfl) (by decide) (by decide) (fun t D => ?_)
  refine sLr D (p := 0) (by omega) (by omega) (by decide) D.2.1.1 (Or.inl rfl) (by decide) (by decide) (fun t D => ?_)
  refine sAr D (p := 0) 6 rfl (by decide) (by omega) (by omega) (by decide) D.2.1.1 (Or.inl rfl) (by decide) (by decide) (fun t D => ?_)
  refine sAr D (p := 0) 6 rfl (by decide) (by omega) (by omega) (by decide) D.2.1.1 (Or.inl rfl) (by decide) (by decide) (fun t D => ?_)
  refine sAr D (p := 0) 6 rfl (by decide) (by omega) (by omega) (by decide) D.2.1.1 (Or.inl rfl) (by decide) (by decide) (fun t D => ?_)
  refine okU_new (by omega) (by omega) ?_
  dsimp only
  rw [D.1.1]
  have D := DB_new D 2 0
  have e1 : okU (f1_init G (some (o + 10)) (znew t 2 0)) 2 20 (fun u => DB G bE s0 s0 0 o u 13 ((12, 103, 12) :: (11, 101, 8) :: (10, 2, 0) :: [(9, 101, 6), (8, 101, 6), (7, 101, 6), (2, 102, 4000), (1, 104, 29)]) ((10, 41, 12) :: (10, 40, 11) :: [(0, 11, 9), (0, 10, 8), (0, 9, 7), (0, 8, 6), (0, 7, 5), (0, 6, 4), (0, 5, 3), (0, 1, 2), (0, 0, 1)]) [6, 5, 4, 3] [1717658484, 7955827, 7302757, 1718775661, 29807, 1835360622, 427071792498, 465557354085, 1650549611, 439855772532, 495672455781, 1836020596, 435778055796, 2036687218, 6384748, 1918989413, 499984983411, 1886156147, 491496238692, 465557353332, 26982, 28530, 6385252, 7237492, 126943972911973, 29676314707714404, 107118487239027, 474148660594, 7168377] (-1)) := by
    unfold f1_init
    rw [Option.bind_some]
    refine sAr D (p := 10) 8 rfl (by decide) (by omega) (by omega) (by decide) (D.2.2.1 (10, 2, 0) (by simp)).2.2.1 (Or.inr rfl) (by decide) (by decide) (fun t D => ?_)
    refine sAr D (p := 10) 12 rfl (by decide) (by omega) (by omega) (by decide) (D.2.2.1 (10, 2, 0) (by simp)).2.2.1 (Or.inr rfl) (by decide) (by decide) (fun t D => ?_)
    exact okU_some D (Nat.zero_le _) (Nat.zero_le _)
  refine okU_bdU e1 (by omega) (by omega) (fun t D => ?_)
  rw [pfR_e D.2.1.1 D.1.2.2.2.2.1, Option.bind_some]
  have D := DB_R0 D 13 (2 + 1 + 1 + 1 + 1 + 1 + 1 + 1 + 1) (by decide) (by decide) (by decide)
  generalize zsR t o 13 (some (o + (2 + 1 + 1 + 1 + 1 + 1 + 1 + 1 + 1))) = t at D ⊢
  refine okU_new (by omega) (by omega) ?_
  dsimp only
  rw [D.1.1]
  have D := DB_new D 3 0
  have e2 : okU (f2_init G (some (o + 13)) (some o) (znew t 3 0)) 4 2018 (fun u => DB G bE s0 s0 0 o u 18 ((17, 102, 2000) :: (16, 101, 2) :: (15, 101, 8) :: (14, 101, 8) :: (13, 3, 0) :: [(12, 103, 12), (11, 101, 8), (10, 2, 0), (9, 101, 6), (8, 101, 6), (7, 101, 6), (2, 102, 4000), (1, 104, 29)]) ((13, 85, 17) :: (13, 84, 16) :: (13, 83, 15) :: (13, 81, 14) :: (13, 86, 0) :: [(0, 13, 10), (10, 41, 12), (10, 40, 11), (0, 11, 9), (0, 10, 8), (0, 9, 7), (0, 8, 6), (0, 7, 5), (0, 6, 4), (0, 5, 3), (0, 1, 2), (0, 0, 1)]) [6, 5, 4, 3] [1717658484, 7955827, 7302757, 1718775661, 29807, 1835360622, 427071792498, 465557354085, 1650549611, 439855772532, 495672455781, 1836020596, 435778055796, 2036687218, 6384748, 1918989413, 499984983411, 1886156147, 491496238692, 465557353332, 26982, 28530, 6385252, 7237492, 126943972911973, 29676314707714404, 107118487239027, 474148660594, 7168377] (-1)) := by
    unfold f2_init
    rw [pfR_e (t := 3) (a := o + 13) (D.2.2.1 (13, 3, 0) (by simp)).2.2.1 (by show G0 G ≤ _; have := D.1.2.2.2.2.1; omega), Option.bind_some, Option.bind_some]
    have D := DB_R D 13 86 0 (by decide) (Or.inr rfl) (by decide) (by decide)
    refine sAr D (p := 13) 8 rfl (by decide) (by omega) (by omega) (by decide) (D.2.2.1 (13, 3, 0) (by simp)).2.2.1 (Or.inr rfl) (by decide) (by decide) (fun t D => ?_)
    refine sAr D (p := 13) 8 rfl (by decide) (by omega) (by omega) (by decide) (D.2.2.1 (13, 3, 0) (by simp)).2.2.1 (Or.inr rfl) (by decide) (by decide) (fun t D => ?_)
    refine sAr D (p := 13) 2 rfl (by decide) (by omega) (by omega) (by decide) (D.2.2.1 (13, 3, 0) (by simp)).2.2.1 (Or.inr rfl) (by decide) (by decide) (fun t D => ?_)
    refine sAr D (p := 13) 2000 rfl (by decide) (by omega) (by omega) (by decide) (D.2.2.1 (13, 3, 0) (by simp)).2.2.1 (Or.inr rfl) (by decide) (by decide) (fun t D => ?_)
    exact okU_some D (Nat.zero_le _) (Nat.zero_le _)
  refine okU_bdU e2 (by omega) (by omega) (fun t D => ?_)
  rw [pfR_e D.2.1.1 D.1.2.2.2.2.1, Option.bind_some]
  have D := DB_R0 D 14 13 (by decide) (by decide) (by decide)
  generalize zsR t o 14 (some (o + 13)) = t at D ⊢
  refine okU_new (by omega) (by omega) ?_
  dsimp only
  rw [D.1.1]
  have D := DB_new D 4 0
  have e3 : okU (f3_init G (some (o + 18)) (some o) (znew t 4 0)) 21 9900 (fun u => DB G bE s0 s0 0 o u 40 [(39, 101, 1220), (38, 5, 0), (37, 101, 1220), (36, 5, 0), (35, 101, 1220), (34, 5, 0), (33, 101, 1220), (32, 5, 0), (31, 101, 1220), (30, 5, 0), (29, 101, 1220), (28, 5, 0), (27, 101, 1220), (26, 5, 0), (24, 101, 1220), (23, 5, 0), (22, 101, 8), (21, 103, 2), (20, 101, 16), (18, 4, 0), (17, 102, 2000), (16, 101, 2), (15, 101, 8), (14, 101, 8), (13, 3, 0), (12, 103, 12), (11, 101, 8), (10, 2, 0), (9, 101, 6), (8, 101, 6), (7, 101, 6), (2, 102, 4000), (1, 104, 29)] [(38, 160, 39), (36, 160, 37), (34, 160, 35), (32, 160, 33), (30, 160, 31), (28, 160, 29), (26, 160, 27), (23, 160, 24), (18, 126, 22), (18, 124, 21), (18, 123, 20), (18, 120, 19), (18, 129, 0), (0, 14, 13), (13, 85, 17), (13, 84, 16), (13, 83, 15), (13, 81, 14), (13, 86, 0), (0, 13, 10), (10, 41, 12), (10, 40, 11), (0, 11, 9), (0, 10, 8), (0, 9, 7), (0, 8, 6), (0, 7, 5), (0, 6, 4), (0, 5, 3), (0, 1, 2), (0, 0, 1)] [6, 5, 4, 3] [1717658484, 7955827, 7302757, 1718775661, 29807, 1835360622, 427071792498, 465557354085, 1650549611, 439855772532, 495672455781, 1836020596, 435778055796, 2036687218, 6384748, 1918989413, 499984983411, 1886156147, 491496238692, 465557353332, 26982, 28530, 6385252, 7237492, 126943972911973, 29676314707714404, 107118487239027, 474148660594, 7168377] (-1) ∧ SPR G o u 8) := by
    unfold f3_init
    rw [pfR_e (t := 4) (a := o + 18) (D.2.2.1 (18, 4, 0) (by simp)).2.2.1 (by show G0 G ≤ _; have := D.1.2.2.2.2.1; omega), Option.bind_some, Option.bind_some]
    have D := DB_R D 18 129 0 (by decide) (Or.inr rfl) (by decide) (by decide)
    refine sLr D (p := 18) (by omega) (by omega) (by decide) (D.2.2.1 (18, 4, 0) (by simp)).2.2.1 (Or.inr rfl) (by decide) (by decide) (fun t D => ?_)
    refine sAr D (p := 18) 16 rfl (by decide) (by omega) (by omega) (by decide) (D.2.2.1 (18, 4, 0) (by simp)).2.2.1 (Or.inr rfl) (by decide) (by decide) (fun t D => ?_)
    refine sAr D (p := 18) 2 rfl (by decide) (by omega) (by omega) (by decide) (D.2.2.1 (18, 4, 0) (by simp)).2.2.1 (Or.inr rfl) (by decide) (by decide) (fun t D => ?_)
    refine sAr D (p := 18) 8 rfl (by decide) (by omega) (by omega) (by decide) (D.2.2.1 (18, 4, 0) (by simp)).2.2.1 (Or.inr rfl) (by decide) (by decide) (fun t D => ?_)
    obtain ⟨fu, hfu⟩ : ∃ fu, NN = fu + 1 + 1 + 1 + 1 + 1 + 1 + 1 + 1 + 1 := ⟨NN - 9, by have := NN_ge; omega⟩
    rw [hfu]
    have e : okU (f3_init_l45 G (some (o + 18)) (fu + 1 + 1 + 1 + 1 + 1 + 1 + 1 + 1 + 1) 0 t) 17 9800 (fun u => DB G bE s0 s0 0 o u 40 [(39, 101, 1220), (38, 5, 0), (37, 101, 1220), (36, 5, 0), (35, 101, 1220), (34, 5, 0), (33, 101, 1220), (32, 5, 0), (31, 101, 1220), (30, 5, 0), (29, 101, 1220), (28, 5, 0), (27, 101, 1220), (26, 5, 0), (24, 101, 1220), (23, 5, 0), (22, 101, 8), (21, 103, 2), (20, 101, 16), (18, 4, 0), (17, 102, 2000), (16, 101, 2), (15, 101, 8), (14, 101, 8), (13, 3, 0), (12, 103, 12), (11, 101, 8), (10, 2, 0), (9, 101, 6), (8, 101, 6), (7, 101, 6), (2, 102, 4000), (1, 104, 29)] [(38, 160, 39), (36, 160, 37), (34, 160, 35), (32, 160, 33), (30, 160, 31), (28, 160, 29), (26, 160, 27), (23, 160, 24), (18, 126, 22), (18, 124, 21), (18, 123, 20), (18, 120, 19), (18, 129, 0), (0, 14, 13), (13, 85, 17), (13, 84, 16), (13, 83, 15), (13, 81, 14), (13, 86, 0), (0, 13, 10), (10, 41, 12), (10, 40, 11), (0, 11, 9), (0, 10, 8), (0, 9, 7), (0, 8, 6), (0, 7, 5), (0, 6, 4), (0, 5, 3), (0, 1, 2), (0, 0, 1)] [6, 5, 4, 3] [1717658484, 7955827, 7302757, 1718775661, 29807, 1835360622, 427071792498, 465557354085, 1650549611, 439855772532, 495672455781, 1836020596, 435778055796, 2036687218, 6384748, 1918989413, 499984983411, 1886156147, 491496238692, 465557353332, 26982, 28530, 6385252, 7237492, 126943972911973, 29676314707714404, 107118487239027, 474148660594, 7168377] (-1) ∧ SPR G o u 8) := by
      refine s45z D (by omega) (by omega) (by simp) (by simp) (by decide) (by decide) (by decide) (by decide) (by decide) (fun t D SP => ?_)
      refine s45i (f := 1) 26 D SP rfl (by decide) (by omega) (by omega) (by simp) (by simp) (by decide) (by decide) (by decide) (by decide) (by decide) (fun t D SP => ?_)
      refine s45i (f := 2) 28 D SP rfl (by decide) (by omega) (by omega) (by simp) (by simp) (by decide) (by decide) (by decide) (by decide) (by decide) (fun t D SP => ?_)
      refine s45i (f := 3) 30 D SP rfl (by decide) (by omega) (by omega) (by simp) (by simp) (by decide) (by decide) (by decide) (by decide) (by decide) (fun t D SP => ?_)
      refine s45i (f := 4) 32 D SP rfl (by decide) (by omega) (by omega) (by simp) (by simp) (by decide) (by decide) (by decide) (by decide) (by decide) (fun t D SP => ?_)
      refine s45i (f := 5) 34 D SP rfl (by decide) (by omega) (by omega) (by simp) (by simp) (by decide) (by decide) (by decide) (by decide) (by decide) (fun t D SP => ?_)
      refine s45i (f := 6) 36 D SP rfl (by decide) (by omega) (by omega) (by simp) (by simp) (by decide) (by decide) (by decide) (by decide) (by decide) (fun t D SP => ?_)
      refine s45i (f := 7) 38 D SP rfl (by decide) (by omega) (by omega) (by simp) (by simp) (by decide) (by decide) (by decide) (by decide) (by decide) (fun t D SP => ?_)
      rw [f3_init_l45.eq_2, if_pos (by decide)]
      exact okU_some ⟨D, SP⟩ (Nat.zero_le _) (Nat.zero_le _)
    refine okU_bdU e (by omega) (by omega) (fun u hu => ?_)
    exact okU_some hu (Nat.zero_le _) (Nat.zero_le _)
  refine okU_bdU e3 (by omega) (by omega) (fun t hD => ?_)
  obtain ⟨D, SP⟩ := hD
  rw [pfR_e D.2.1.1 D.1.2.2.2.2.1, Option.bind_some]
  have SP := SPR_k (t' := zsR t o 15 (some (o + 18))) SP ⟨Nat.le_refl _, fun x _ => ⟨rfl, rfl⟩⟩ (sam_zsR sam_rf (by omega)) (sam_zsR sam_rf (by omega))
  have D := DB_R0 D 15 18 (by decide) (by decide) (by decide)
  obtain ⟨s1, hs1⟩ : ∃ s1, s1 = zsR t o 15 (some (o + 18)) := ⟨_, rfl⟩
  have D := DB_p (s1' := s1) D hs1
  have hs1' := hs1
  rw [← hs1] at SP
  refine sAr D (p := 0) 40 rfl (by decide) (by omega) (by omega) (by decide) D.2.1.1 (Or.inl rfl) (by decide) (by decide) (fun t D => ?_)
  refine sAr D (p := 0) 40 rfl (by decide) (by omega) (by omega) (by decide) D.2.1.1 (Or.inl rfl) (by decide) (by decide) (fun t D => ?_)
  refine sAr D (p := 0) 400 rfl (by decide) (by omega) (by omega) (by decide) D.2.1.1 (Or.inl rfl) (by decide) (by decide) (fun t D => ?_)
  refine sAr D (p := 0) 400 rfl (by decide) (by omega) (by omega) (by decide) D.2.1.1 (Or.inl rfl) (by decide) (by decide) (fun t D => ?_)
  refine sAr D (p := 0) 400 rfl (by decide) (by omega) (by omega) (by decide) D.2.1.1 (Or.inl rfl) (by decide) (by decide) (fun t D => ?_)
  refine sAr D (p := 0) 400 rfl (by decide) (by omega) (by omega) (by decide) D.2.1.1 (Or.inl rfl) (by decide) (by decide) (fun t D => ?_)
  refine sAr D (p := 0) 100 rfl (by decide) (by omega) (by omega) (by decide) D.2.1.1 (Or.inl rfl) (by decide) (by decide) (fun t D => ?_)
  refine sAr D (p := 0) 401 rfl (by decide) (by omega) (by omega) (by decide) D.2.1.1 (Or.inl rfl) (by decide) (by decide) (fun t D => ?_)
  refine sAr D (p := 0) 5 rfl (by decide) (by omega) (by omega) (by decide) D.2.1.1 (Or.inl rfl) (by decide) (by decide) (fun t D => ?_)
  refine sAr D (p := 0) 1601 rfl (by decide) (by omega) (by omega) (by decide) D.2.1.1 (Or.inl rfl) (by decide) (by decide) (fun t D => ?_)
  refine sAr D (p := 0) 1601 rfl (by decide) (by omega) (by omega) (by decide) D.2.1.1 (Or.inl rfl) (by decide) (by decide) (fun t D => ?_)
  refine sAr D (p := 0) 1601 rfl (by decide) (by omega) (by omega) (by decide) D.2.1.1 (Or.inl rfl) (by decide) (by decide) (fun t D => ?_)
  exact okU_some ⟨s1, D, SP⟩ (Nat.zero_le _) (Nat.zero_le _)
