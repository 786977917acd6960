/-! THE READER: a wording begins -/
def κE (G : CG) (N : Nat) : Nat → Nat := fun q => if q < G0 G then 1 else if q = N then 2 else if q = N + 8 then 3 else if q = N + 1 then 240 else if q = N + 2 then 241 else if q = N + 3 then 242 else if q = N + 4 then 243 else if q = N + 5 then 244 else if q = N + 6 then 247 else if q = N + 7 then 250 else 0
theorem κE_nz {G : CG} {N q : Nat} (h : κE G N q ≠ 0) : q < G0 G ∨ (N ≤ q ∧ q ≤ N + 8) := by
  unfold κE at h
  by_cases z : q < G0 G
  · exact Or.inl z
  · right
    rw [if_neg z] at h
    by_cases z0 : N ≤ q ∧ q ≤ N + 8
    · exact z0
    · exfalso
      rw [if_neg (by omega), if_neg (by omega), if_neg (by omega), if_neg (by omega), if_neg (by omega), if_neg (by omega), if_neg (by omega), if_neg (by omega), if_neg (by omega)] at h
      exact h rfl
/-- since u4 only new cells; the text and the words stand -/
theorem TX_new {G : CG} {L : Ly} {u t : Sg} {m m' : Mu} {r : Nat} (h : RC G L u m) (hs : ∀ q, q < zN u → q ≠ L.1 3 → sam u t q) (h3 : zT t (L.1 3) = 1 ∧ zR t (L.1 3) = zR u (L.1 3) ∧ zI t (L.1 3) 2 = zI u (L.1 3) 2) (hr : zT t r = 8 ∧ zN u ≤ r ∧ zR t r 290 = some (L.1 3)) (h2 : m'.1 2 = m.1 2) (h0 : m'.2 0 = m.2 0) (h1 : m'.2 1 = m.2 1) : TX G L t m' r := by
  obtain ⟨hR, hS, hA, -⟩ := h
  have l3 := hR.2.2.1 (L.1 3) (by rw [rC3 hR]; decide)
  have l100 := hR.2.2.1 (L.1 100) (by rw [rC100 hR]; decide)
  have l101 := hR.2.2.1 (L.1 101) (by rw [rC101 hR]; decide)
  have s100 := hs _ l100 (rne (rC100 hR) (rC3 hR) (by decide))
  have s101 := hs _ l101 (rne (rC101 hR) (rC3 hR) (by decide))
  refine ⟨⟨hr.1, by have := hR.2.2.2.2.1; omega, hr.2.2, by omega⟩, ⟨h3.1, by rw [h3.2.2, h2]; exact hS.1, by rw [h2]; exact hS.2.1, by rw [h2]; exact hS.2.2.1, by rw [h3.2.1]; exact rR3_1 hR, by rw [s101.1]; exact rT101 hR, by rw [s101.2.1]; exact rL101 hR, fun i hi => ?_⟩, ⟨by rw [h3.2.1]; exact rR3_0 hR, by rw [s100.1]; exact rT100 hR, by rw [s100.2.1]; exact rL100 hR, fun i hi => ?_⟩⟩
  · rw [h2] at hi
    rw [s101.2.2.2.2.1, h1]; exact hA.1 i hi
  · rw [s100.2.2.2.2.1, h0]; exact hA.2.2.2.2.2.2.2 i hi
theorem m_begin {m : Mu} {w v : Int} : m5_beginText w v m = (m5_next (ms (ms (ms (ms (ms (ms (ms m 3 0) 8 0) 46 0) 52 0) 47 v) 56 0) 51 w)) := by
  unfold m5_beginText
  simp only [Option.bind_some]
  rw [bind_id7]
theorem ms7 {m : Mu} {w v : Int} (k : Nat) : (ms (ms (ms (ms (ms (ms (ms m 3 0) 8 0) 46 0) 52 0) 47 v) 56 0) 51 w).1 k = if k = 51 then w else if k = 56 then 0 else if k = 47 then v else if k = 52 then 0 else if k = 46 then 0 else if k = 8 then 0 else if k = 3 then 0 else m.1 k := by
  simp only [ms_1]
theorem begin7 {G : CG} {L : Ly} {u : Sg} {m : Mu} (h : RC G L u m) (hT : m.1 2 ≤ 512) : ∃ t1 m1 m3 X, f6_init G (some (zN u)) (znew (zsI u (L.1 3) 3 (-1)) 7 0) = some (t1, 7, 21) ∧ zN t1 = zN u + 8 ∧ f7_init G (some (zN u + 8)) (some (L.1 3)) (some (zN u)) 300 (znew t1 8 0) = X ∧ m5_clear 0 m = some m1 ∧ m5_beginText 0 300 m1 = some m3 ∧ mpl 0 [12, 19, 23, 27, 32, 33] m m1 ∧ m3.2 = m1.2 ∧ (∀ k, k ∉ [3, 4, 5, 6, 7, 8, 46, 47, 51, 52, 56] → m3.1 k = m.1 k) ∧ (0 ≤ m3.1 5 ∧ m3.1 47 = 300) ∧ ((∃ t3 κ W, X = some ((.inr (), t3), 0, 0) ∧ IX G L (zN u + 8) (zN u) (zN u) κ t3 m3 W ∧ FRo (zN u) (zsI u (L.1 3) 3 (-1)) t3) ∨ (∃ e t3, X = some ((.inl e, t3), 1, 8) ∧ THI (zN u) (zsI u (L.1 3) 3 (-1)) 0 e t3 1 8 1 (m3.1 5) ∧ m3.1 4 = 5 ∧ m3.1 8 = 0)) := by
  have hR := h.1
  have hS := h.2.1
  have l3 := hR.2.2.1 (L.1 3) (by rw [rC3 hR]; decide)
  have l100 := hR.2.2.1 (L.1 100) (by rw [rC100 hR]; decide)
  have l101 := hR.2.2.1 (L.1 101) (by rw [rC101 hR]; decide)
  have hG := hR.2.2.2.2.1
  obtain ⟨u4, hu4⟩ : ∃ u4, u4 = zsI u (L.1 3) 3 (-1) := ⟨_, rfl⟩
  rw [← hu4]
  obtain ⟨N, hN⟩ : ∃ N, N = zN u := ⟨_, rfl⟩
  have N4 : zN u4 = N := by rw [hu4, hN]; rfl
  have s4 : ∀ q, q ≠ L.1 3 → sam u u4 q := fun q hq => by rw [hu4]; exact sam_zI hq
  have g3 : G0 G ≤ L.1 3 := rG3 hR
  have St4 : St G u4 := St_s hR.2.2.2.2.2.1 (fun q hq => s4 q (by omega))
  obtain ⟨t1, bE, e6, hE, B1, ⟨i245, i246, i248⟩, ⟨d1, d2, d3⟩, N1⟩ := f6_new (G := G) (u := u4) (by rw [N4]; omega) St4
  rw [N4] at e6 B1 i245 i246 i248 d1 d2 d3 N1
  obtain ⟨⟨B11, B12⟩, ⟨-, -, B13⟩, B14, B15, B16, B17⟩ := B1
  obtain ⟨t2, e8, ⟨C1, C2⟩, T8, R290, R286, I8, N2⟩ := new8 (G := G) (u := t1) (o := L.1 3) (v2 := some N) (v := 300) (by omega)
  rw [N1] at e8 C2 T8 R290 R286 I8 N2
  -- the twin
  obtain ⟨m1, c1, c2, c3, c4⟩ := m_clear (m := m) (w := 0) (by omega)
  obtain ⟨mb, hmb⟩ : ∃ mb, mb = ms (ms (ms (ms (ms (ms (ms m1 3 0) 8 0) 46 0) 52 0) 47 300) 56 0) 51 0 := ⟨_, rfl⟩
  have mb1 : ∀ k, mb.1 k = if k = 51 then 0 else if k = 56 then 0 else if k = 47 then 300 else if k = 52 then 0 else if k = 46 then 0 else if k = 8 then 0 else if k = 3 then 0 else m.1 k := fun k => by rw [hmb, ms7, c2.1]
  have mb2 : mb.2 = m1.2 := by rw [hmb]; rfl
  have b2 : mb.1 2 = m.1 2 := by rw [mb1]; rfl
  -- old cells
  have sO : ∀ q, q < N → sam u4 t2 q := fun q hq => sam_tr (B12 q (by rw [N4]; exact hq)) (C2 q (by omega))
  have gO : gro u4 t2 := gro_tr B11 C1
  have TX2 : TX G L t2 mb (N + 8) := by
    have s3 := sO (L.1 3) (by omega)
    refine TX_new h (fun q q1 q2 => sam_tr (s4 q q2) (sO q (by omega))) ⟨by rw [s3.1, hu4]; show zT u (L.1 3) = 1; exact rT3 hR, by rw [s3.2.2.2.1, hu4]; rfl, by rw [s3.2.2.1, hu4, zsI_I, if_neg (fun q => absurd q.2 (by decide))]⟩ ⟨T8, by omega, R290⟩ b2 (by rw [mb2, c2.2.1 0 (by decide)]) (by rw [mb2, c2.2.1 1 (by decide)])
  obtain ⟨m3, n1, n2, n3, n4, n5⟩ := start7 TX2 ⟨by omega, by omega, by omega, by omega, by omega, by omega, by omega⟩ ⟨by rw [I8]; rfl, by rw [mb1]; rfl⟩ ⟨by rw [I8]; rfl, by rw [mb1]; rfl, by rw [b2]; exact hT⟩ (by rw [I8, mb1]; exact Or.inl ⟨rfl, rfl⟩) (by rw [mb1]; rfl)
  have F02 : FRo N u4 t2 := ⟨gO, sO⟩
  rw [← hN]
  refine ⟨t1, m1, m3, _, e6, N1, rfl, c1, ?_, c2, by rw [n2, mb2], fun k hk => ?_, ⟨n4, by rw [n3 47 (by omega), mb1]; rfl⟩, ?_⟩
  · rw [m_begin, ← hmb]; exact n1
  · have hk' : k ≠ 3 ∧ k ≠ 4 ∧ k ≠ 5 ∧ k ≠ 6 ∧ k ≠ 7 ∧ k ≠ 8 ∧ k ≠ 46 ∧ k ≠ 47 ∧ k ≠ 51 ∧ k ≠ 52 ∧ k ≠ 56 := by
      simp only [List.mem_cons, List.not_mem_nil, or_false] at hk; omega
    rw [n3 k (by omega), mb1, if_neg (by omega), if_neg (by omega), if_neg (by omega), if_neg (by omega), if_neg (by omega), if_neg (by omega), if_neg (by omega)]
  · rw [e8]
    rcases n5 with ⟨t3, p1, p2, p3, p4, p5, p6⟩ | ⟨e, t3, p1, p2, p3, p4⟩
    · left
      refine ⟨t3, κE G N, slc m3 0, by rw [p1, te_ok], ?_, FRo_tr F02 (FRo_7 (by omega) (by omega) p4)⟩
      -- cells in t2
      have kO : ∀ q, G0 G ≤ q → κE G N q = if q = N then 2 else if q = N + 8 then 3 else if q = N + 1 then 240 else if q = N + 2 then 241 else if q = N + 3 then 242 else if q = N + 4 then 243 else if q = N + 5 then 244 else if q = N + 6 then 247 else if q = N + 7 then 250 else 0 := fun q hq => by unfold κE; rw [if_neg (by omega)]
      have sa := C2 N (by omega)
      have KO2 : KO G (N + 8) N N (κE G N) t2 := by
        refine ⟨⟨?_, by rw [sa.1]; exact B13, ?_⟩, fun q hq => ?_, fun q hq => ?_, fun q hq => by unfold κE; rw [if_pos hq], by omega⟩
        · rw [kO N (by omega), if_pos rfl]
        · rw [kO (N + 8) (by omega), if_neg (by omega), if_pos rfl]
        · rcases κE_nz hq with z | z <;> omega
        · rcases κE_nz hq with z | z
          · exact Or.inl z
          · exact Or.inr z.1
      obtain ⟨bE', hE', hbG, hbT, hbL, hbB⟩ := St4.2.1
      rw [hE] at hE'
      cases hE'
      have sbE := sO bE (by omega)
      have lists : ∀ j k, fE N j = some (N + k) → j ≠ 247 → κE G N (N + k) = j → ∀ el, LBw G (κE G N) t2 N j 0 el := fun j k hf hj hk el => by
        obtain ⟨k1, k2, k3, k4, k5⟩ := B15 j _ hf hj
        have sl := C2 (N + k) (by omega)
        refine ⟨N + k, bE, by rw [sa.2.2.2.1, B14, hf], ⟨by rw [sl.1]; exact k3, by rw [sl.2.2.2.1]; exact k4, by rw [sl.2.2.1]; exact k5, by rw [sbE.1]; exact hbT, Nat.zero_le _, by rw [sbE.2.1, hbL]; omega, by omega, by omega, fun i x hx => by rw [sbE.2.2.2.2.2, hbB i] at hx; cases hx⟩, ⟨by show G0 G ≤ _; omega, fun _ => hE, fun q => by rw [sbE.2.1, hbL] at q; omega⟩, hk, fun q => by rw [sbE.2.1, hbL] at q; omega, fun _ => hbG, fun i hi => by omega⟩
      have W0 : ∀ k, wid k = 1 → slc mb 0 k 0 = m1.2 k 0 := fun k hk => by rw [slc_1 hk, mb2]
      have nF0 : nF (slc mb 0) = 0 := by show (slc mb 0 12 0).toNat = 0; rw [W0 12 rfl, c3.1]; rfl
      have nM0 : nM (slc mb 0) = 0 := by show (slc mb 0 19 0).toNat = 0; rw [W0 19 rfl, c3.2.1]; rfl
      have nP0 : nP (slc mb 0) = 0 := by show (slc mb 0 27 0).toNat = 0; rw [W0 27 rfl, c3.2.2.2.1]; rfl
      have W32 : ∀ k, k < 5 → slc mb 0 32 k = -3 := fun k hk => by
        show (if k < 5 then mb.2 32 (5 * 0 + k) else 0) = -3
        rw [if_pos hk, mb2]; exact c4 k hk
      have b56 : mb.1 56 = 0 := by rw [mb1]; rfl
      have b46 : mb.1 46 = 0 := by rw [mb1]; rfl
      have sd := C2 (N + 6) (by omega)
      have WB2 : WB G (N + 8) N N (κE G N) t2 mb (slc mb 0) := by
        unfold WB
        rw [nF0, nM0, nP0, b56]
        refine ⟨KO2, ⟨rfl, by rw [W0 12 rfl, c3.1]; rfl, by omega, by rw [W0 19 rfl, c3.2.1]; rfl, by omega, by rw [W0 27 rfl, c3.2.2.2.1]; rfl, by omega, by omega, by omega, fun k hk => ?_⟩, ⟨id, lists 240 1 (by unfold fE; simp) (by decide) ?_ _, fun f hf => by omega⟩, ⟨id, lists 241 2 (by unfold fE; simp) (by decide) ?_ _, fun f hf => by omega⟩, ⟨id, lists 242 3 (by unfold fE; simp) (by decide) ?_ _, fun f hf => by omega⟩, ⟨id, lists 243 4 (by unfold fE; simp) (by decide) ?_ _, fun f hf => absurd hf (by simp)⟩, ⟨id, lists 244 5 (by unfold fE; simp) (by decide) ?_ _, fun f hf => by omega⟩, ⟨by rw [sa.2.2.1, i245, W32 0 (by omega)], by rw [sa.2.2.1, i246, W32 1 (by omega)], by rw [W32 0 (by omega)]; exact Or.inl rfl, by rw [W32 1 (by omega)]; exact Or.inl rfl, N + 6, by rw [sa.2.2.2.1, B14]; unfold fE; simp, ?_, by rw [sd.1]; exact d1, by rw [sd.2.1]; exact d2, fun k hk => ⟨by rw [sd.2.2.2.2.1, d3 k hk, W32 _ (by omega)], by rw [W32 _ (by omega)]; exact Or.inl rfl⟩⟩, ?_, id, lists 250 7 (by unfold fE; simp) (by decide) ?_ _⟩
        · rw [show k = 0 by omega]; simp [tmB]
        · rw [kO _ (by omega), if_neg (by omega), if_neg (by omega), if_pos rfl]
        · rw [kO _ (by omega), if_neg (by omega), if_neg (by omega), if_neg (by omega), if_pos rfl]
        · rw [kO _ (by omega), if_neg (by omega), if_neg (by omega), if_neg (by omega), if_neg (by omega), if_pos rfl]
        · rw [kO _ (by omega), if_neg (by omega), if_neg (by omega), if_neg (by omega), if_neg (by omega), if_neg (by omega), if_pos rfl]
        · rw [kO _ (by omega), if_neg (by omega), if_neg (by omega), if_neg (by omega), if_neg (by omega), if_neg (by omega), if_neg (by omega), if_pos rfl]
        · rw [kO _ (by omega), if_neg (by omega), if_neg (by omega), if_neg (by omega), if_neg (by omega), if_neg (by omega), if_neg (by omega), if_neg (by omega), if_pos rfl]
        · rw [sa.2.2.1, i248]; rfl
        · rw [kO _ (by omega), if_neg (by omega), if_neg (by omega), if_neg (by omega), if_neg (by omega), if_neg (by omega), if_neg (by omega), if_neg (by omega), if_neg (by omega), if_pos rfl]
      have esl : slc m3 0 = slc mb 0 := by funext x y; unfold slc; rw [n2]
      have b346 : m3.1 46 = 0 := by rw [n3 46 (by omega)]; exact b46
      have WB3 := WB_k (KK_7 KO2 p4) (KO_7 KO2 p4) esl (n3 56 (by omega)) ⟨by rw [n3 46 (by omega)]; exact Int.le_refl _, fun k _ => nd_of (fun j _ => by rw [n2]) k⟩ (fun k _ => by rw [n2]; exact ⟨rfl, rfl, rfl⟩) WB2
      rw [esl]
      refine ⟨⟨p2, p3, by rw [p6 287 (by omega), I8]; rfl, by rw [p4.2.2.2.1]; exact R286⟩, WB3, ⟨fun i hi => by rw [b346] at hi; omega, by unfold SMS; rw [nM0, nP0, n3 56 (by omega), b56, b346]; rfl⟩, ⟨⟨by rw [n3 51 (by omega), mb1]; rfl, by rw [b346, n3 52 (by omega), mb1]; rfl⟩, by rw [b346]; exact Int.le_refl _, by rw [b346]; exact n4⟩, St_k7 (St_s St4 (fun q hq => sO q (by omega))) (by omega) (by omega) p4, by omega, by omega, by omega, by omega, by omega⟩
    · right
      refine ⟨e, t3, by rw [p1, xt_tel p2.1], ?_, p3, p4⟩
      exact THI_tr F02 ⟨by omega, by omega⟩ (Int.le_refl _) p2 (by omega) (by omega)
