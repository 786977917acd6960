/-! THE READER: the end: the starts of a new wording are cut out -/
/-- a new Starts at N, its row behind it -/
def CU (u t : Sg) (n i : Nat) (a : Nat → Int) : Prop := (gro u t ∧ ∀ q, q < zN u → sam u t q) ∧ zN t = zN u + 2 ∧ (zT t (zN u) = 5 ∧ zI t (zN u) 161 = (n : Int) ∧ zR t (zN u) 160 = some (zN u + 1)) ∧ (zT t (zN u + 1) = 101 ∧ zL t (zN u + 1) = n) ∧ ∀ k, k < i → zA t (zN u + 1) k = a k
theorem c_cut {G : CG} {u : Sg} {s rr n : Nat} {a : Nat → Int} (hG : G0 G ≤ zN u) (h1 : zT u s = 5) (h2 : zI u s 161 = (n : Int)) (h3 : zR u s 160 = some rr) (h4 : zT u rr = 101) (h5 : zL u rr = 1220) (h6 : s < zN u ∧ rr < zN u) (hn : n ≤ 1219) (ha : ∀ k, k < n → zA u rr k = a k) : ∃ t, f4_cutOut G (some s) u = some ((some (zN u), t), 2, n + 3) ∧ CU u t n n a := by
  obtain ⟨N, hN⟩ : ∃ N, N = zN u := ⟨_, rfl⟩
  have hG' : G.2.2.2.1 ≤ N := by rw [hN]; exact hG
  obtain ⟨u3, hu3⟩ : ∃ u3, u3 = zsR (znew (znew u 5 0) 101 n) N 160 (some (N + 1)) := ⟨_, rfl⟩
  obtain ⟨u7, hu7⟩ : ∃ u7, u7 = zsI (zsI u3 N 161 (n : Int)) N 162 (zI u s 162) := ⟨_, rfl⟩
  have s3 : ∀ q, q < N → sam u u3 q := fun q hq => by rw [hu3]; exact sam_zsR (sam_znew (sam_znew sam_rf (by omega)) (by rw [znew_N]; omega)) (by omega)
  have s7 : ∀ q, q < N → sam u u7 q := fun q hq => by rw [hu7]; exact sam_zsI (sam_zsI (s3 q hq) (by omega)) (by omega)
  have T3 : zT u3 N = 5 := by rw [hu3]; show zT (znew (znew u 5 0) 101 n) N = 5; rw [znew_T, znew_N, if_neg (by omega), znew_T, if_pos hN]
  have g7 : gro u u7 := by
    refine ⟨?_, fun x hx => ⟨(s7 x (by omega)).1, (s7 x (by omega)).2.1⟩⟩
    rw [hu7, hu3]; show zN u ≤ zN (znew (znew u 5 0) 101 n); rw [znew_N, znew_N]; omega
  have C7 : CU u u7 n 0 a := by
    refine ⟨⟨g7, fun q hq => s7 q (by omega)⟩, ?_, ⟨?_, ?_, ?_⟩, ⟨?_, ?_⟩, fun k hk => absurd hk (Nat.not_lt_zero _)⟩
    · rw [hu7, hu3]; show zN (znew (znew u 5 0) 101 n) = _; rw [znew_N, znew_N]
    · rw [← hN, hu7]; exact T3
    · rw [← hN, hu7, zsI_I, if_neg (fun z => absurd z.2 (by decide)), zsI_I, if_pos ⟨rfl, rfl⟩]
    · rw [← hN, hu7, hu3]; show zR (zsR _ N 160 _) N 160 = _; rw [zsR_R, if_pos ⟨rfl, rfl⟩]
    · rw [← hN, hu7, hu3]; show zT (znew (znew u 5 0) 101 n) (N + 1) = 101; rw [znew_T, znew_N, if_pos (by omega)]
    · rw [← hN, hu7, hu3]; show zL (znew (znew u 5 0) 101 n) (N + 1) = n; rw [znew_L, znew_N, if_pos (by omega)]
  have key := loop_ind (fun q (t : Nat × Sg) => f4_cutOut_l30 G (some s) (some N) q (t.1 : Int) t.2) (fun t => n - t.1) (fun t => t.1 ≤ n ∧ CU u t.2 n t.1 a) (fun _ r => CU u r n n a) (by
    rintro q ⟨i, t⟩ ⟨g1, g2⟩ ih
    dsimp only at g1 g2 ⊢
    show ok (f4_cutOut_l30 G (some s) (some N) (q + 1) (i : Int) t) _
    unfold f4_cutOut_l30
    obtain ⟨⟨p1, p2⟩, p3, ⟨p4, p5, p6⟩, ⟨p7, p8⟩, p9⟩ := id g2
    have ss := p2 s h6.1
    have sr := p2 rr h6.2
    refine ok_eq (gfI_v (by rw [ss.1]; exact h1) (show zI t s 161 = (n : Int) by rw [ss.2.2.1]; exact h2)) ?_
    rw [w32_n (by omega), w32_n (by omega)]
    refine ok_ite (fun hz => ok_some (by rw [show i = n by omega] at g2; exact g2)) (fun hz => ?_)
    rw [← hN] at p4 p5 p6 p7 p8 p9
    refine ok_eq (gfR_v p4 p6) (ok_eq (gfR_v (by rw [ss.1]; exact h1) (show zR t s 160 = some rr by rw [ss.2.2.2.1]; exact h3)) (ok_eq (alI_e i (show zT t rr = 101 by rw [sr.1]; exact h4) rfl (by rw [sr.2.1, h5]; omega) (by rw [sr.2.1, h5]; omega)) (ok_eq (asI_e i (show zT t (N + 1) = 101 from p7) (by omega) rfl (by rw [p8]; omega) (by rw [p8]; omega)) ?_)))
    refine ih (i + 1, _) ⟨by show i + 1 ≤ n; omega, ?_⟩ (by show n - (i + 1) < n - i; omega)
    refine ⟨⟨⟨p1.1, fun x hx => p1.2 x hx⟩, fun x hx => sam_zsA (p2 x hx) (by omega)⟩, p3, ⟨by rw [← hN]; exact p4, by rw [← hN]; exact p5, by rw [← hN]; exact p6⟩, ⟨by rw [← hN]; exact p7, by rw [← hN]; exact p8⟩, fun k hk => ?_⟩
    have hk : k < i + 1 := hk
    show zA (zsA t (N + 1) i (zA t rr i)) (zN u + 1) k = a k
    rw [← hN, zsA_A]
    by_cases z : k = i
    · rw [if_pos ⟨rfl, z⟩, z, sr.2.2.2.2.1, ha i (by omega)]
    · rw [if_neg (fun y => z y.2)]; exact p9 k (by omega)) NN (0, u7) ⟨Nat.zero_le _, C7⟩ (NN_gt (by show n - 0 < 100000; omega))
  obtain ⟨t, e, hC⟩ := key
  refine ⟨t, ?_, hC⟩
  have e : f4_cutOut_l30 G (some s) (some N) NN 0 u7 = some t := e
  have hsN : s ≠ N := by omega
  have ex1 : gfI (znew u 5 0) 5 161 (some s) = some (n : Int) := gfI_v (by rw [znew_T, if_neg (by omega)]; exact h1) (by rw [znew_I, if_neg (by omega)]; exact h2)
  have ex2 : f4_init G (some N) (n : Int) (znew u 5 0) = some (u3, 1, n) := by
    unfold f4_init
    rw [Option.bind_some, zNewA_e n rfl (by omega), bdU_e]
    dsimp only
    rw [show zN (znew u 5 0) = N + 1 by rw [znew_N]; omega, pfR_e (by rw [znew_T, znew_N, if_neg (by omega), znew_T, if_pos hN]) (by omega), Option.bind_some, ← hu3]
    simp
  have ex3 : gfI u3 5 161 (some s) = some (n : Int) := gfI_v (by rw [(s3 s (by omega)).1]; exact h1) (by rw [(s3 s (by omega)).2.2.1]; exact h2)
  have ex4 : gfI (zsI u3 N 161 (n : Int)) 5 162 (some s) = some (zI u s 162) := gfI_v (by show zT u3 s = 5; rw [(s3 s (by omega)).1]; exact h1) (by rw [zsI_I, if_neg (fun z => hsN z.1), (s3 s (by omega)).2.2.1])
  unfold f4_cutOut
  show bdU (some ((zN u, znew u 5 0), 1, 3)) _ = _
  rw [bdU_e, ← hN]
  rw [ex1, Option.bind_some, ex2, bdU_e]
  dsimp only
  rw [ex3, Option.bind_some, pfI_e T3 (by omega), Option.bind_some, ex4, Option.bind_some, pfI_e (show zT (zsI u3 N 161 (n : Int)) N = 5 from T3) (by omega), Option.bind_some, ← hu7, e, Option.bind_some]
  simp
