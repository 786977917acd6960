/-! THE READER over a wording that stands; any beginning -/
theorem WA_LK {G : CG} {L : Ly} {u t : Sg} {a r : Nat} {W : Wv} (hM : WM W) (h : WA G L u a W) (hg : gro u t) (hs : ∀ q, L.2 q = 1 → sam u t q ∧ ZO t r q) : LK (ZO t r) t a W := by
  obtain ⟨⟨h1, h2⟩, ⟨l1, e1, a1, ⟨b1, c1, c2, c3, c4⟩, f1⟩, ⟨l2, e2, a2, ⟨b2, d1, d2, d3, d4⟩, f2⟩, -⟩ := h
  have hM1 := hM.1
  have sa := (hs a h1).1
  refine ⟨⟨(hs a h1).2, by rw [sa.1]; exact h2⟩, ⟨by show _ = ((W 12 0).toNat : Int); omega, by show (W 12 0).toNat ≤ 8; omega, by show _ = ((W 19 0).toNat : Int); omega, by show (W 19 0).toNat ≤ 12; omega⟩, ⟨l1, b1, e1, by rw [sa.2.2.2.1]; exact a1, LA_sam c1 (hs l1 c2).1 (hs b1 c3).1 hg.1 (fun x hx => (hg.2 x hx).1), (hs l1 c2).2, (hs b1 c3).2, fun i hi => by rw [(hs b1 c3).1.2.2.2.2.2]; exact c4 i hi, fun f hf => ?_⟩, ⟨l2, b2, e2, by rw [sa.2.2.2.1]; exact a2, LA_sam d1 (hs l2 d2).1 (hs b2 d3).1 hg.1 (fun x hx => (hg.2 x hx).1), (hs l2 d2).2, (hs b2 d3).2, fun i hi => by rw [(hs b2 d3).1.2.2.2.2.2]; exact d4 i hi, fun k hk => ?_⟩⟩
  · obtain ⟨q1, q2, q3, q4, q5, q6, q7, c, q8, ⟨q9, q10, q11⟩, q12⟩ := f1 f hf
    obtain ⟨se, ze⟩ := hs _ q1
    obtain ⟨sc, zc⟩ := hs c q9
    obtain ⟨m1, m2, m3, m4, -⟩ := hM.2.1 f hf
    exact ⟨ze, by rw [se.1]; exact q2, by rw [se.2.2.1]; exact q3, by rw [se.2.2.1]; exact q4, by rw [se.2.2.1]; exact q5, by rw [se.2.2.1]; exact q6, by rw [se.2.2.1]; exact q7, ⟨m1, m2, m3, m4⟩, c, by rw [se.2.2.2.1]; exact q8, zc, by rw [sc.1]; exact q10, by rw [sc.2.1]; exact q11, fun k hk => by rw [sc.2.2.2.2.1]; exact q12 k hk⟩
  · obtain ⟨q1, q2, q3⟩ := f2 k hk
    obtain ⟨se, ze⟩ := hs _ q1
    exact ⟨ze, by rw [se.1]; exact q2, by rw [se.2.2.1]; exact q3⟩
/-- a reader is made at zN t1, and has its first token -/
theorem beginG {G : CG} {L : Ly} {u t1 : Sg} {m : Mu} (h : RC G L u m) (hT : m.1 2 ≤ 512) (hs : ∀ q, q < zN u → q ≠ L.1 3 → sam u t1 q) (h3 : zT t1 (L.1 3) = 1 ∧ zR t1 (L.1 3) = zR u (L.1 3) ∧ zI t1 (L.1 3) 2 = zI u (L.1 3) 2) (hN : zN u ≤ zN t1) (v2 : Option Nat) {v vv : Int} (hv : LIM v vv) (w : Int) : ∃ m3, m5_beginText w vv m = some m3 ∧ m3.2 = m.2 ∧ (∀ k, k ∉ [3, 4, 5, 6, 7, 8, 46, 47, 51, 52, 56] → m3.1 k = m.1 k) ∧ (0 ≤ m3.1 5 ∧ m3.1 47 = vv ∧ m3.1 51 = w ∧ m3.1 46 = 0 ∧ m3.1 52 = 0 ∧ m3.1 56 = 0 ∧ m3.1 8 = 0) ∧ ((∃ t3, f7_init G (some (zN t1)) (some (L.1 3)) v2 v (znew t1 8 0) = some ((.inr (), t3), 0, 0) ∧ R7 G L t3 m3 (zN t1) ∧ m3.1 52 ≤ m3.1 5 ∧ (gro t1 t3 ∧ ∀ q, q < zN t1 → sam t1 t3 q) ∧ zI t3 (zN t1) 287 = 0 ∧ zR t3 (zN t1) 286 = v2 ∧ zN t3 = zN t1 + 1 ∧ St G t3) ∨ (∃ e t3, f7_init G (some (zN t1)) (some (L.1 3)) v2 v (znew t1 8 0) = some ((.inl e, t3), 1, 8) ∧ zT t3 e = 9 ∧ zI t3 e 326 = 1 ∧ zI t3 e 327 = m3.1 5 ∧ e < zN t3 ∧ (gro t1 t3 ∧ ∀ q, q < zN t1 → sam t1 t3 q) ∧ m3.1 4 = 5)) := by
  have hR := h.1
  have l3 := hR.2.2.1 (L.1 3) (by rw [rC3 hR]; decide)
  have l100 := hR.2.2.1 (L.1 100) (by rw [rC100 hR]; decide)
  have l101 := hR.2.2.1 (L.1 101) (by rw [rC101 hR]; decide)
  have hG := hR.2.2.2.2.1
  have g3 : G0 G ≤ L.1 3 := rG3 hR
  have St1 : St G t1 := St_s hR.2.2.2.2.2.1 (fun q hq => hs q (by omega) (by omega))
  obtain ⟨t2, e8, ⟨C1, C2⟩, T8, R290, R286, I8, N2⟩ := new8 (G := G) (u := t1) (o := L.1 3) (v2 := v2) (v := v) (by omega)
  obtain ⟨mb, hmb⟩ : ∃ mb, mb = ms (ms (ms (ms (ms (ms (ms m 3 0) 8 0) 46 0) 52 0) 47 vv) 56 0) 51 w := ⟨_, rfl⟩
  have mb1 : ∀ k, mb.1 k = if k = 51 then w else if k = 56 then 0 else if k = 47 then vv else if k = 52 then 0 else if k = 46 then 0 else if k = 8 then 0 else if k = 3 then 0 else m.1 k := fun k => by rw [hmb, ms7]
  have mb2 : mb.2 = m.2 := by rw [hmb]; rfl
  have b2 : mb.1 2 = m.1 2 := by rw [mb1]; rfl
  have s3 := C2 (L.1 3) (by omega)
  have TX2 : TX G L t2 mb (zN t1) := TX_new h (fun q q1 q2 => sam_tr (hs q q1 q2) (C2 q (by omega))) ⟨by rw [s3.1]; exact h3.1, by rw [s3.2.2.2.1]; exact h3.2.1, by rw [s3.2.2.1]; exact h3.2.2⟩ ⟨T8, hN, R290⟩ b2 (by rw [mb2]) (by rw [mb2])
  obtain ⟨m3, n1, n2, n3, n4, n5⟩ := start7 TX2 ⟨by omega, by omega, by omega, by omega, by omega, by omega, by omega⟩ ⟨by rw [I8]; rfl, by rw [mb1]; rfl⟩ ⟨by rw [I8]; rfl, by rw [mb1]; rfl, by rw [b2]; exact hT⟩ (by rw [I8, mb1]; exact hv) (by rw [mb1]; rfl)
  have St2 : St G t2 := St_s St1 (fun q hq => C2 q (by omega))
  refine ⟨m3, by rw [m_begin, ← hmb]; exact n1, by rw [n2, mb2], fun k hk => ?_, ⟨n4, by rw [n3 47 (by omega), mb1]; rfl, by rw [n3 51 (by omega), mb1]; rfl, by rw [n3 46 (by omega), mb1]; rfl, by rw [n3 52 (by omega), mb1]; rfl, by rw [n3 56 (by omega), mb1]; rfl, by rw [n3 8 (by omega), mb1]; rfl⟩, ?_⟩
  · have hk' : k ≠ 3 ∧ k ≠ 4 ∧ k ≠ 5 ∧ k ≠ 6 ∧ k ≠ 7 ∧ k ≠ 8 ∧ k ≠ 46 ∧ k ≠ 47 ∧ k ≠ 51 ∧ k ≠ 52 ∧ k ≠ 56 := by
      simp only [List.mem_cons, List.not_mem_nil, or_false] at hk; omega
    rw [n3 k (by omega), mb1, if_neg (by omega), if_neg (by omega), if_neg (by omega), if_neg (by omega), if_neg (by omega), if_neg (by omega), if_neg (by omega)]
  · rw [e8]
    rcases n5 with ⟨t3, p1, p2, p3, p4, p5, p6⟩ | ⟨e, t3, p1, p2, p3, p4⟩
    · left
      refine ⟨t3, by rw [p1, te_ok], p2, p3, ⟨gro_tr C1 p4.1, fun q hq => sam_tr (C2 q hq) (p4.2.1 q (by omega) (by omega))⟩, by rw [p6 287 (by omega), I8]; rfl, by rw [p4.2.2.2.1]; exact R286, by omega, St_k7 St2 (by omega) (by omega) p4⟩
    · right
      obtain ⟨r1, ⟨r2, r2'⟩, r3, r4, r5, -⟩ := p2
      exact ⟨e, t3, by rw [p1, xt_tel r1], r1, r2, r3, r4, ⟨gro_tr C1 r5.1, fun q hq => sam_tr (C2 q hq) (r5.2.1 q (by omega) (by omega))⟩, p3⟩
