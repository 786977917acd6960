/-! THE READER: the end: finish on the class's side, all goes well -/
/-- bare cells below n are frozen, d and e are scratch -/
def LDw (L : Ly) (d e n : Nat) : Ly := (L.1, fun q => if L.2 q ≠ 0 then L.2 q else if q = d ∨ q = e then 145 else if q < n then 1 else 0)
/-- bare cells below n are frozen -/
def LEw (L : Ly) (n : Nat) : Ly := (L.1, fun q => if L.2 q ≠ 0 then L.2 q else if q < n then 1 else 0)
theorem LDw_1 {L : Ly} {d e n q : Nat} (h : L.2 q ≠ 0) : (LDw L d e n).2 q = L.2 q := if_pos h
theorem LDw_0 {L : Ly} {d e n q : Nat} (h : L.2 q = 0) (h1 : q ≠ d) (h2 : q ≠ e) (h3 : q < n) : (LDw L d e n).2 q = 1 := by
  show (if L.2 q ≠ 0 then L.2 q else if q = d ∨ q = e then 145 else if q < n then 1 else 0) = 1
  rw [if_neg (by omega), if_neg (by omega), if_pos h3]
theorem LDw_d {L : Ly} {d e n q : Nat} (h : L.2 q = 0) (h1 : q = d ∨ q = e) : (LDw L d e n).2 q = 145 := by
  show (if L.2 q ≠ 0 then L.2 q else if q = d ∨ q = e then 145 else if q < n then 1 else 0) = 145
  rw [if_neg (by omega), if_pos h1]
theorem LDw_lt {L : Ly} {d e n q : Nat} (h : (LDw L d e n).2 q ≠ 0) : L.2 q ≠ 0 ∨ q = d ∨ q = e ∨ q < n := by
  have h : (if L.2 q ≠ 0 then L.2 q else if q = d ∨ q = e then 145 else if q < n then 1 else 0) ≠ 0 := h
  by_cases z1 : L.2 q ≠ 0
  · exact Or.inl z1
  · by_cases z2 : q = d ∨ q = e
    · omega
    · by_cases z3 : q < n
      · omega
      · rw [if_neg z1, if_neg z2, if_neg z3] at h; exact absurd rfl h
theorem LEw_1 {L : Ly} {n q : Nat} (h : L.2 q = 1) : (LEw L n).2 q = 1 := by
  show (if L.2 q ≠ 0 then L.2 q else if q < n then 1 else 0) = 1
  rw [if_pos (by omega)]; exact h
theorem LEw_0 {L : Ly} {n q : Nat} (h : L.2 q = 0) (h3 : q < n) : (LEw L n).2 q = 1 := by
  show (if L.2 q ≠ 0 then L.2 q else if q < n then 1 else 0) = 1
  rw [if_neg (by omega), if_pos h3]
theorem c_finB {G : CG} {L : Ly} {t : Sg} {m : Mu} {a l b0 : Nat} {W W' : Wv} {ns : Nat → Nat} {as : Nat → Nat → Int} (h : RC G L t m) (hF : FH G L t a W l b0) (hN : NA W ns as) (hj : jP ns (nF W) ≤ 2000) (hM : WM W') (hq : Wq4 W W') (hS : ∀ f, f < nF W → nS W' f = ns f ∧ ∀ j, j < ns f → W' 38 (608 * f + j) = as f j) (h40 : W' 40 0 = (jP ns (nF W) : Nat)) (hn11 : m.1 11 ≤ 11) : ∃ t9 t10 b' L9 cc nn, f0_finish G (some (L.1 3)) (some a) t = some ((.inr (((m.1 11).toNat + 1 : Nat) : Int), t10), cc, nn) ∧ cc ≤ 27 ∧ nn ≤ 15300 ∧ RC G L9 t9 m ∧ WA G L9 t9 a W' ∧ L9.1 = L.1 ∧ (∀ q, q < zN t9 → L9.2 q ≠ 0) ∧ AD G t9 t10 (L.1 105) (L.1 151) b' (m.1 11).toNat (some a) ∧ a < zN t9 := by
  obtain ⟨t1, cn, ca, e1, s1, r1⟩ := c_fin h hF hN
  obtain ⟨f1, f2, f3, ⟨f4, f5, f6⟩, ⟨y1, y2, y3, y4, y5, y6, y7⟩, ySum⟩ := hF
  have hR := h.1
  have R1 := RC_scr h s1
  have hR1 := R1.1
  have hfs := WM0_FS f1 f2
  have h8 : nF W ≤ 8 := by have := f1.1; show (W 12 0).toNat ≤ 8; omega
  have h24 : nC W ≤ 24 := by have := f1.1; show (W 23 0).toNat ≤ 24; omega
  have hjp : 1 ≤ jP ns (nF W) := jP_1 (nF W) (fun g hg => (hN g hg).2.1)
  obtain ⟨N, hNj⟩ : ∃ N, N = jP ns (nF W) := ⟨_, rfl⟩
  rw [← hNj] at hj h40 hjp
  have hmin : ((min (jP ns (nF W)) 1000000 : Nat) : Int) = (N : Int) := by rw [← hNj]; omega
  rw [hmin] at e1
  have N1 : zN t1 = zN t := s1.2.2.2.1
  have sa1 := sam01 s1 (show L.2 a ≤ 1 by omega)
  have sl1 := sam01 s1 (show L.2 l ≤ 1 by omega)
  have T1 : zT t1 a = 7 := by rw [sa1.1]; exact f3.1
  have hb0 : L.2 b0 ≤ 1 := by
    by_cases z : 0 < zL t b0
    · have := y7 z; omega
    · obtain ⟨b, q1, q2, -⟩ := hR.2.2.2.2.2.1.2.1
      have : GS G 6 = some b0 := y3.2.1 (by omega)
      rw [q1] at this
      cases this
      have := hR.2.2.2.1 _ q2; omega
  have sb1 := sam01 s1 hb0
  -- the number of cells
  obtain ⟨t2, ht2⟩ : ∃ t2, t2 = zsI t1 a 251 (N : Int) := ⟨_, rfl⟩
  have s2 : ∀ q, q ≠ a → sam t1 t2 q := fun q hq => by rw [ht2]; exact sam_zsI sam_rf hq
  have N2 : zN t2 = zN t := by rw [ht2]; exact N1
  have g12 : gro t1 t2 := ⟨by rw [ht2]; exact Nat.le_refl _, fun x _ => ⟨by rw [ht2]; rfl, by rw [ht2]; rfl⟩⟩
  have RC2 : RC G L t2 m := RC_ext R1 ⟨g12, fun _ _ => rfl, fun q hq => by have := hR.2.2.1 q hq; omega⟩ (fun q hq => s2 q (fun e => hq (by rw [e]; exact f4))) (fun _ _ => rfl)
  have W1 : WR G L t1 a W := WR_k (frz_scr s1) sa1.1 (fun j _ => by rw [sa1.2.2.2.1]) (fun j _ => by rw [sa1.2.2.1]) f3
  have fz12 : frz L L t1 t2 := ⟨g12, fun q hq => ⟨hq, s2 q (fun e => by rw [e, f4] at hq; omega)⟩⟩
  have T2 : zT t2 a = 7 := by rw [ht2]; exact T1
  have W2 : WR G L t2 a W := WR_k fz12 (by rw [ht2]; rfl) (fun j _ => by rw [ht2]; rfl) (fun j hj => by rw [ht2, zsI_I, if_neg (by omega)]) W1
  have A2 : zR t2 a 250 = some l := by rw [ht2]; show zR t1 a 250 = _; rw [sa1.2.2.2.1]; exact y1
  have l2 : LA t2 l b0 0 := LA_sam (LA_sam y2 sl1 sb1 (by omega) (fun x _ => by rw [s1.1])) (s2 l y5) (s2 b0 y6) (by omega) (fun x _ => by rw [ht2]; rfl)
  have zb2 : zL t2 b0 = zL t b0 := by rw [(s2 b0 y6).2.1, sb1.2.1]
  have lw2 : LW G t2 l b0 := ⟨y3.1, fun z => y3.2.1 (by rw [← zb2]; exact z), fun z => y3.2.2 (by rw [← zb2]; exact z)⟩
  have S2 : ∀ f, f < nF W → ST L t2 f (cn f) (ca f) (W 18 f) ∧ 1 ≤ cn f ∧ cn f ≤ 1219 := fun f hf => by
    obtain ⟨⟨q1, q2, q3⟩, q4, q5⟩ := r1 f hf
    have := hN f hf
    obtain ⟨⟨z1, z2, z3⟩, ⟨z4, z5, z6, z7⟩, -⟩ := rSt hR1 (f := f) (by omega)
    have c1 := s2 (L.1 (160 + f)) (fun e => by rw [e, f4] at z2; omega)
    have c2 := s2 (L.1 (170 + f)) (fun e => by rw [e, f4] at z6; omega)
    exact ⟨⟨by rw [c1.2.2.1]; exact q1, by rw [c1.2.2.1]; exact q2, fun k hk => by rw [c2.2.2.2.2.1]; exact q3 k hk⟩, by omega, by omega⟩
  obtain ⟨t3, c3, n3, e3, c3b, n3b, g23, k23, bt, el, l3, lw3, hbt, ss3⟩ := c_89 RC2 (v := (N : Int)) h8 ⟨_, _, W2.2.1.choose_spec.choose_spec.1, W2.2.1.choose_spec.choose_spec.2.1⟩ T2 ⟨by omega, fun e => y5 e.symm, fun e => y6 e.symm⟩ A2 l2 lw2 y4 (fun z => y7 (by rw [← zb2]; exact z)) S2 (by omega)
  have N3 := g23.1
  have sa3 := k23 a (by omega) (fun e => y5 e.symm) (Or.inl (fun e => y6 e.symm))
  have col3 : ∀ q, L.2 q ≠ 0 → sam t2 t3 q := fun q hq => by
    refine k23 q (by have := hR.2.2.1 q hq; omega) (fun e => hq (by rw [e]; exact y4)) ?_
    by_cases z : zL t2 b0 = 0
    · exact Or.inr z
    · exact Or.inl (fun e => hq (by rw [e]; exact y7 (by omega)))
  have fz23 : frz L L t2 t3 := ⟨g23, fun q hq => ⟨hq, col3 q (by omega)⟩⟩
  have W3 : WR G L t3 a W := WR_k fz23 sa3.1 (fun j _ => by rw [sa3.2.2.2.1]) (fun j _ => by rw [sa3.2.2.1]) W2
  -- nodes
  have eCN : f6_countNodes G (some a) t3 = some (W 33 0, zsI t3 a 249 (W 33 0)) := by
    obtain ⟨v0, -, -, -, ⟨l4, e4, q1, q2, q3⟩, -, -, q5⟩ := id W3
    rw [c_countN v0 f5 (by omega) h24 q1 q2 (fun k hk => ⟨(q3 k hk).1, (q3 k hk).2.1, (q3 k hk).2.2.2.1⟩), q5]
    have : ((List.range (nM W)).map fun k => W 22 k - W 21 k).sum + ((List.range (nP W)).map fun k => W 31 k - W 30 k).sum + lsm (fun k => W 26 k - W 25 k) (nC W) = W 33 0 := by
      rw [← ySum]; show lsm (fun k => W 22 k - W 21 k) (nM W) + lsm (fun k => W 31 k - W 30 k) (nP W) + _ = _; omega
    rw [this]
  obtain ⟨t4, ht4⟩ : ∃ t4, t4 = zsI t3 a 249 (W 33 0) := ⟨_, rfl⟩
  obtain ⟨d, hd⟩ : ∃ d, d = zN t3 := ⟨_, rfl⟩
  obtain ⟨t6, ht6⟩ : ∃ t6, t6 = zsR (znew t4 102 N) a 252 (some d) := ⟨_, rfl⟩
  obtain ⟨t8, ht8⟩ : ∃ t8, t8 = zsR (znew t6 102 N) a 253 (some (d + 1)) := ⟨_, rfl⟩
  have N4 : zN t4 = d := by rw [ht4, hd]; rfl
  have N6 : zN t6 = d + 1 := by rw [ht6]; show zN (znew t4 102 N) = _; rw [znew_N, N4]
  have N8 : zN t8 = d + 2 := by rw [ht8]; show zN (znew t6 102 N) = _; rw [znew_N, N6]
  have aN : a < d := by omega
  have s38 : ∀ q, q ≠ a → q < d → sam t3 t8 q := fun q q1 q2 => by
    rw [ht8, ht6, ht4]
    exact sam_zsR (sam_znew (sam_zsR (sam_znew (sam_zsI sam_rf q1) (by show q ≠ zN t3; omega)) q1) (by rw [← ht4, ← ht6, N6]; omega)) q1
  have T4 : zT t4 a = 7 := by rw [ht4]; exact W3.1
  have T6 : zT t6 a = 7 := by rw [ht6]; show zT (znew t4 102 N) a = 7; rw [znew_T, if_neg (by omega)]; exact T4
  have T8 : zT t8 a = 7 := by rw [ht8]; show zT (znew t6 102 N) a = 7; rw [znew_T, if_neg (by omega)]; exact T6
  have I8 : ∀ j, zI t8 a j = if j = 249 then W 33 0 else zI t3 a j := fun j => by
    rw [ht8]; show zI (znew t6 102 N) a j = _
    rw [znew_I, if_neg (by omega), ht6]; show zI (znew t4 102 N) a j = _
    rw [znew_I, if_neg (by omega), ht4, zsI_I]
    by_cases z : j = 249
    · rw [if_pos ⟨rfl, z⟩, if_pos z]
    · rw [if_neg (fun y => z y.2), if_neg z]
  have R8 : ∀ j, zR t8 a j = if j = 253 then some (d + 1) else if j = 252 then some d else zR t3 a j := fun j => by
    rw [ht8, zsR_R]
    by_cases z : j = 253
    · rw [if_pos ⟨rfl, z⟩, if_pos z]
    · rw [if_neg (fun y => z y.2), if_neg z, znew_R, if_neg (by omega), ht6, zsR_R]
      by_cases z2 : j = 252
      · rw [if_pos ⟨rfl, z2⟩, if_pos z2]
      · rw [if_neg (fun y => z2 y.2), if_neg z2, znew_R, if_neg (by omega), ht4]; rfl
  have Td : zT t8 d = 102 ∧ zL t8 d = N ∧ ∀ x, zA t8 d x = 0 := by
    rw [ht8, ht6]
    refine ⟨?_, ?_, fun x => ?_⟩
    · show zT (znew (zsR (znew t4 102 N) a 252 (some d)) 102 N) d = 102
      rw [znew_T, if_neg (by rw [← ht6, N6]; omega)]; show zT (znew t4 102 N) d = 102; rw [znew_T, if_pos N4.symm]
    · show zL (znew (zsR (znew t4 102 N) a 252 (some d)) 102 N) d = N
      rw [znew_L, if_neg (by rw [← ht6, N6]; omega)]; show zL (znew t4 102 N) d = N; rw [znew_L, if_pos N4.symm]
    · show zA (znew (zsR (znew t4 102 N) a 252 (some d)) 102 N) d x = 0
      rw [znew_A, if_neg (by rw [← ht6, N6]; omega)]; show zA (znew t4 102 N) d x = 0; rw [znew_A, if_pos N4.symm]
  have Te : zT t8 (d + 1) = 102 ∧ zL t8 (d + 1) = N ∧ ∀ x, zA t8 (d + 1) x = 0 := by
    rw [ht8]
    refine ⟨?_, ?_, fun x => ?_⟩
    · show zT (znew t6 102 N) (d + 1) = 102; rw [znew_T, if_pos N6.symm]
    · show zL (znew t6 102 N) (d + 1) = N; rw [znew_L, if_pos N6.symm]
    · show zA (znew t6 102 N) (d + 1) x = 0; rw [znew_A, if_pos N6.symm]
  have g38 : gro t3 t8 := ⟨by omega, fun x hx => by
    by_cases z : x = a
    · subst z
      refine ⟨by rw [T8]; exact W3.1.symm, ?_⟩
      rw [ht8]; show zL (znew t6 102 N) x = _
      rw [znew_L, if_neg (by omega), ht6]; show zL (znew t4 102 N) x = _
      rw [znew_L, if_neg (by omega), ht4]; rfl
    · exact ⟨(s38 x z (by omega)).1, (s38 x z (by omega)).2.1⟩⟩
  have g28 := gro_tr g23 g38
  have col8 : ∀ q, L.2 q ≠ 0 → sam t2 t8 q := fun q hq => by
    have := hR.2.2.1 q hq
    exact sam_tr (col3 q hq) (s38 q (fun e => hq (by rw [e]; exact f4)) (by omega))
  -- the working layout
  have cd : ∀ q, d ≤ q → L.2 q = 0 := fun q hq => Classical.byContradiction (fun z => by have := hR.2.2.1 q z; omega)
  have RC8 : RC G (LDw L d (d + 1) (d + 2)) t8 m := RC_ext RC2 ⟨g28, fun q hq => LDw_1 (by omega), fun q hq => by
    rcases LDw_lt hq with z | z | z | z
    · have := hR.2.2.1 q z; omega
    · omega
    · omega
    · omega⟩ col8 (fun _ _ => rfl)
  have fz28 : frz L (LDw L d (d + 1) (d + 2)) t2 t8 := ⟨g28, fun q hq => ⟨by rw [LDw_1 (by omega)]; exact hq, col8 q (by omega)⟩⟩
  have W8 : WR G (LDw L d (d + 1) (d + 2)) t8 a W := WR_k fz28 (by rw [T8, T2]) (fun j hj => by rw [R8, if_neg (by omega), if_neg (by omega), sa3.2.2.2.1]) (fun j hj => by rw [I8, if_neg (by omega), sa3.2.2.1]) W2
  have l8 : LA t8 l bt (nF W) := LA_sam l3 (s38 l y5 (by have := l3.2.2.2.2.2.2.1; omega)) (s38 bt (fun e => by have := l3.2.2.2.1; rw [e, W3.1] at this; omega) (by have := l3.2.2.2.2.2.2.2.1; omega)) g38.1 (fun x hx => (g38.2 x hx).1)
  have btN := l3.2.2.2.2.2.2.2.1
  have lN := l3.2.2.2.2.2.2.1
  have cL : ∀ q, L.2 q ≤ 1 → q < d → (LDw L d (d + 1) (d + 2)).2 q = 1 := fun q q1 q2 => by
    by_cases z : L.2 q = 0
    · exact LDw_0 z (by omega) (by omega) (by omega)
    · rw [LDw_1 z]; omega
  have cN : ∀ q, zN t2 ≤ q → L.2 q = 0 := fun q hq => Classical.byContradiction (fun z => by have := hR.2.2.1 q z; omega)
  have lf8 : LF (LDw L d (d + 1) (d + 2)) t8 l (nF W) el := ⟨bt, l8, cL l (by omega) (by omega), cL bt (by
      rcases hbt with z | z
      · rw [z]; exact hb0
      · have := cN bt z; omega) (by omega), fun i hi => by
      have sbt := s38 bt (fun e => by have := l3.2.2.2.1; rw [e, W3.1] at this; omega) (by omega)
      rw [sbt.2.2.2.2.2]; exact (ss3 i hi).1⟩
  have WQ8 : WQ G (LDw L d (d + 1) (d + 2)) t8 a W' := by
    refine ⟨cL a (by omega) aN, by rw [WR_4 hq]; exact W8, l, el, by rw [R8, if_neg (by omega), if_neg (by omega), sa3.2.2.2.1]; exact A2, by rw [nF_4 hq]; exact lf8, fun f hf => ?_⟩
    rw [nF_4 hq] at hf
    obtain ⟨-, ⟨p1, p2, p3, p4⟩, r, p5, ⟨p6, p7, p8, p9⟩, p10⟩ := ss3 f hf
    obtain ⟨q1, q2, q3⟩ := r1 f hf
    obtain ⟨v1, v2⟩ := hS f hf
    have sx := s38 (el f) (fun e => by rw [e, W3.1] at p3; omega) (by omega)
    have sr := s38 r (fun e => by rw [e, W3.1] at p8; omega) (by omega)
    have e39 : W' 39 f = (cn f : Int) := by rw [(nS_e hM (f := f) (by rw [nF_4 hq]; exact hf)).1, v1, q2]
    refine ⟨cL _ (by have := cN _ p1; omega) (by omega), by rw [sx.1]; exact p3, by rw [sx.2.2.1, p4, e39], r, by rw [sx.2.2.2.1]; exact p5, ⟨cL r (by have := cN r p6; omega) (by omega), by rw [sr.1]; exact p8, by rw [sr.2.1, p9, v1, q2]⟩, fun k hk => ?_⟩
    rw [v1] at hk
    rw [sr.2.2.2.2.1, p10 k (by omega), q3 k hk, v2 k hk]
  have hG0 : G0 G ≤ d := by have := hR.2.2.2.2.1; omega
  have DE8 : DE G (LDw L d (d + 1) (d + 2)) t8 d (d + 1) N := ⟨⟨LDw_d (cd d (by omega)) (Or.inl rfl), LDw_d (cd _ (by omega)) (Or.inr rfl), by omega⟩, ⟨Td.1, Td.2.1, hG0⟩, ⟨Te.1, Te.2.1, by omega⟩⟩
  have hug : N = ug W' 0 := by
    have := hM.2.2.2.2.2.2.2.1.1
    rw [h40] at this
    rw [ug_0]; omega
  obtain ⟨t9, e9, a9, v9⟩ := c_22 RC8 hM WQ8 DE8 hug (by rw [I8, if_neg (by omega), sa3.2.2.1, ht2, zsI_I, if_pos ⟨rfl, rfl⟩]) (by rw [R8, if_neg (by omega), if_pos rfl]) (by rw [R8, if_pos rfl]) (fun x _ => ⟨Td.2.2 x, Te.2.2 x⟩)
  have e9 : f6_answerAll_l22 G (some a) (some (L.1 113)) NN 0 t8 = some (t9, 0, 0) := e9
  have sc9 := afr_scr RC8.1 DE8 a9
  have RC9d := RC_scr RC8 sc9
  have WQ9 := WQ_k (frz_scr sc9) WQ8
  have N9 : zN t9 = d + 2 := by rw [a9.1.2.2.2.2.2]; exact N8
  -- the last layout
  have nd145 : ∀ q, (q = d ∨ q = d + 1) → L.1 145 ≠ q := fun q hq e => by
    have := hR.2.2.1 (L.1 145) (by rw [rC145 hR]; decide); omega
  have RC9 : RC G (LEw L (d + 2)) t9 m := by
    refine RC_ext RC9d ⟨gro_rf, fun q hq => ?_, fun q hq => ?_⟩ (fun _ _ => sam_rf) (fun _ _ => rfl)
    · by_cases z : L.2 q = 0
      · by_cases z2 : q = d ∨ q = d + 1
        · rw [LDw_d z z2] at hq
          rcases hq with hq | ⟨-, hq⟩
          · omega
          · exact absurd hq (nd145 q z2)
        · by_cases z3 : q < d + 2
          · rw [LDw_0 z (by omega) (by omega) z3]; exact LEw_0 z z3
          · have e1 : (LDw L d (d + 1) (d + 2)).2 q = 0 := Classical.byContradiction (fun y => by rcases LDw_lt y with w | w | w | w <;> omega)
            rw [e1] at hq
            rcases hq with hq | hq
            · omega
            · exact absurd rfl hq.1
      · rw [LDw_1 z]
        show (if L.2 q ≠ 0 then L.2 q else if q < d + 2 then 1 else 0) = _
        rw [if_pos z]
    · rw [N9]
      have hq : (if L.2 q ≠ 0 then L.2 q else if q < d + 2 then 1 else 0) ≠ 0 := hq
      by_cases z : L.2 q ≠ 0
      · have := hR.2.2.1 q z; omega
      · by_cases z3 : q < d + 2
        · exact z3
        · rw [if_neg z, if_neg z3] at hq; exact absurd rfl hq
  have fz9 : frz (LDw L d (d + 1) (d + 2)) (LEw L (d + 2)) t9 t9 := ⟨gro_rf, fun q hq => ⟨by
    rcases LDw_lt (show (LDw L d (d + 1) (d + 2)).2 q ≠ 0 by omega) with z | z | z | z
    · rw [LDw_1 z] at hq; exact LEw_1 hq
    · rw [LDw_d (cd q (by omega)) (Or.inl z)] at hq; omega
    · rw [LDw_d (cd q (by omega)) (Or.inr z)] at hq; omega
    · by_cases y : L.2 q = 0
      · exact LEw_0 y z
      · rw [LDw_1 y] at hq; exact LEw_1 hq, sam_rf⟩⟩
  obtain ⟨w1, w2, wl, wel, w3, w4, w5⟩ := WQ9
  obtain ⟨v0, v1, v2, v3, v4, v5, v6, v7⟩ := WR_k fz9 rfl (fun _ _ => rfl) (fun _ _ => rfl) w2
  have I9 : ∀ j, zI t9 a j = zI t8 a j := fun j => by rw [a9.1.2.2.1]
  have R9 : ∀ j, zR t9 a j = zR t8 a j := fun j => by rw [a9.1.2.2.2.1]
  have WA9 : WA G (LEw L (d + 2)) t9 a W' := by
    refine ⟨⟨(fz9.2 a w1).1, v0⟩, v1, v2, v3, v4, v5, v6, ⟨?_, ?_, v7⟩, ⟨wl, wel, w3, LF_k fz9 w4, fun f hf => SA_k fz9 (w5 f hf)⟩, d, d + 1, by rw [R9, R8, if_neg (by omega), if_pos rfl], by rw [R9, R8, if_pos rfl], ⟨LEw_0 (cd d (by omega)) (by omega), by rw [a9.1.1]; exact Td.1, by rw [a9.1.2.1, Td.2.1, hug, ug_0]⟩, ⟨LEw_0 (cd _ (by omega)) (by omega), by rw [a9.1.1]; exact Te.1, by rw [a9.1.2.1, Te.2.1, hug, ug_0]⟩, fun c hc => ?_⟩
    · rw [I9, I8, if_pos rfl, hq 33 (by decide) (by decide) (by decide) (by decide)]
    · rw [I9, I8, if_neg (by omega), sa3.2.2.1, ht2, zsI_I, if_pos ⟨rfl, rfl⟩, h40]
    · rw [← ug_0, ← hug] at hc
      obtain ⟨z1, z2⟩ := v9 c hc
      refine ⟨?_, z2⟩
      rw [z1, hM.2.2.2.2.2.2.2.2.1 c (by rw [← ug_0, ← hug]; exact hc)]
  -- the list of wordings
  have hR9 := RC9.1
  obtain ⟨w0, -, hML, -⟩ := RC9.2.2.2.2.1
  have mlA : LA t9 (L.1 105) (L.1 151) (m.1 11).toNat := hML.1
  have mlW : LW G t9 (L.1 105) (L.1 151) := hML.2.1
  obtain ⟨b', t10, ⟨⟨rr, c10, n10⟩, e10, e10', c10b, n10b⟩, hAD⟩ := J_add (v := some a) mlA mlW hR9.2.2.2.2.1 (by omega) shr32_1 (fun x hx => by cases hx; exact ⟨by rw [v0]; decide, by omega⟩)
  have e10' : rr = (1, t10) := e10'
  subst e10'
  have c10b : c10 ≤ 1 := c10b
  have n10b : n10 ≤ 2 * (m.1 11).toNat + 12 := n10b
  have T3' : zT t3 (L.1 3) = 1 := by rw [(col3 _ (by rw [rC3 hR]; decide)).1]; exact rT3 RC2.1
  have n3a : L.1 3 ≠ a := fun e => by have := rC3 hR; rw [e, f4] at this; omega
  have c39 : (LEw L (d + 2)).2 (L.1 3) = 3 := (show (LEw L (d + 2)).2 ((LEw L (d + 2)).1 3) = 3 from rC3 hR9)
  have c1059 : (LEw L (d + 2)).2 (L.1 105) = 105 := hML.2.2.1
  have T39 : zT t9 (L.1 3) = 1 := (show zT t9 ((LEw L (d + 2)).1 3) = 1 from rT3 hR9)
  have R395 : zR t9 (L.1 3) 5 = some (L.1 105) := (show zR t9 ((LEw L (d + 2)).1 3) 5 = some ((LEw L (d + 2)).1 105) from rR3_5 hR9)
  have n105 : L.1 3 ≠ L.1 105 := fun e => by rw [e, c1059] at c39; omega
  have n3b' : L.1 3 ≠ b' := fun e => by
    have t := hAD.1.2.2.2.1
    have := (hAD.2.2.2.2.2.1.2 (L.1 3) (hR9.2.2.1 (L.1 3) (by rw [c39]; decide))).1
    rw [e] at this
    rw [t] at this
    rw [← e] at this; omega
  have s10 : sam t9 t10 (L.1 3) := hAD.2.2.2.2.2.2.2 _ n105 n3b'
  refine ⟨t9, t10, b', LEw L (d + 2), c10 + 2 + c3, n10 + (N + N) + n3, ?_, by omega, by omega, RC9, WA9, rfl, fun q hq => ?_, hAD, by omega⟩
  · have eP : f6_isParted G (some a) (some (L.1 146)) t = some ((1, t3), c3, n3) := by
      unfold f6_isParted
      rw [e1, bdU_z, pfI_e T1 f5, Option.bind_some, ← ht2, e3, bdU_e]
      unfold f6_isParted_b141
      rw [w64_id (x := (N : Int)) (by omega) (by omega), if_neg (by omega)]
      simp
    have eA : f6_answerAll G (some a) (some (L.1 113)) t4 = some (t9, 2, N + N) := by
      unfold f6_answerAll
      have i1 : zI t4 a 251 = (N : Int) := by rw [ht4, zsI_I, if_neg (by omega), sa3.2.2.1, ht2, zsI_I, if_pos ⟨rfl, rfl⟩]
      have i2 : zI t6 a 251 = (N : Int) := by rw [ht6]; show zI (znew t4 102 N) a 251 = _; rw [znew_I, if_neg (by omega)]; exact i1
      rw [gfI_v T4 i1, Option.bind_some, zNewA_e N rfl (by omega), bdU_e, N4]
      dsimp only
      rw [pfR_e (by rw [znew_T, if_neg (by omega)]; exact T4) f5, Option.bind_some, ← ht6, gfI_v T6 i2, Option.bind_some, zNewA_e N rfl (by omega), bdU_e, N6]
      dsimp only
      rw [pfR_e (by rw [znew_T, if_neg (by omega)]; exact T6) f5, Option.bind_some, ← ht8, e9, bdU_z]
      simp
    unfold f0_finish
    rw [gfR_v (rT3 hR) (rR3_15 hR), Option.bind_some, gfR_v (rT115 hR) (rR115_120 hR), Option.bind_some, ztg_e f3.1, Option.bind_some, eP, bdU_e]
    dsimp only
    rw [if_neg (show ¬ w32 1 = 0 by decide), ztg_e W3.1, Option.bind_some, eCN, Option.bind_some, ← ht4]
    dsimp only
    rw [gfR_v (show zT t4 (L.1 3) = 1 by rw [ht4]; exact T3') (show zR t4 (L.1 3) 13 = some (L.1 113) by rw [ht4]; show zR t3 (L.1 3) 13 = _; rw [(col3 _ (by rw [rC3 hR]; decide)).2.2.2.1]; exact rR3_13 RC2.1), Option.bind_some, ztg_e T4, Option.bind_some, eA, bdU_e, gfR_v T39 R395, Option.bind_some, ztg_e mlA.1, Option.bind_some, e10, bdU_e]
    dsimp only
    rw [gfR_v (show zT t10 (L.1 3) = 1 by rw [s10.1]; exact T39) (show zR t10 (L.1 3) 5 = some (L.1 105) by rw [s10.2.2.2.1]; exact R395), Option.bind_some, ztg_e hAD.1.1, Option.bind_some, J_size hAD.1, Option.bind_some]
    simp
  · rw [N9] at hq
    by_cases z : L.2 q = 0
    · rw [LEw_0 z hq]; decide
    · show (if L.2 q ≠ 0 then L.2 q else if q < d + 2 then 1 else 0) ≠ 0
      rw [if_pos z]; exact z
