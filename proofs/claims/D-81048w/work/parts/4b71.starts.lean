/-! THE READER: the end: the list of starts -/
/-- a Starts that was cut out since N: n starts a -/
def SC (N : Nat) (t : Sg) (x n : Nat) (a : Nat → Int) : Prop := (N ≤ x ∧ x < zN t ∧ zT t x = 5 ∧ zI t x 161 = (n : Int)) ∧ ∃ r, zR t x 160 = some r ∧ (N ≤ r ∧ r < zN t ∧ zT t r = 101 ∧ zL t r = n) ∧ ∀ k, k < n → zA t r k = a k
theorem SC_k {N x n : Nat} {t t' : Sg} {a : Nat → Int} (h : SC N t x n a) (hg : gro t t') (hs : ∀ q, q < zN t → zT t q = 5 ∨ zT t q = 101 → sam t t' q) : SC N t' x n a := by
  obtain ⟨⟨h1, h2, h3, h4⟩, r, h5, ⟨h6, h7, h8, h9⟩, h10⟩ := h
  have sx := hs x h2 (Or.inl h3)
  have sr := hs r h7 (Or.inr h8)
  have := hg.1
  exact ⟨⟨h1, by omega, by rw [sx.1]; exact h3, by rw [sx.2.2.1]; exact h4⟩, r, by rw [sx.2.2.2.1]; exact h5, ⟨h6, by omega, by rw [sr.1]; exact h8, by rw [sr.2.1]; exact h9⟩, fun k hk => by rw [sr.2.2.2.2.1]; exact h10 k hk⟩
/-- n starts were cut out since u and lie in the list l -/
def SL (G : CG) (u t : Sg) (l b0 n : Nat) (cn : Nat → Nat) (ca : Nat → Nat → Int) : Prop := gro u t ∧ (∀ q, q < zN u → q ≠ l → (q ≠ b0 ∨ zL u b0 = 0) → sam u t q) ∧ ∃ (b : Nat) (el : Nat → Nat), LA t l b n ∧ LW G t l b ∧ (b = b0 ∨ zN u ≤ b) ∧ ∀ g, g < n → zB t b g = some (el g) ∧ SC (zN u) t (el g) (cn g) (ca g)
theorem c_89 {G : CG} {L : Ly} {u : Sg} {m : Mu} (h : RC G L u m) {W : Wv} {wa l b0 : Nat} {cn : Nat → Nat} {ca : Nat → Nat → Int} {v : Int} (h8 : nF W ≤ 8) (hA : ∃ l el, zR u wa 240 = some l ∧ LF L u l (nF W) el) (hT : zT u wa = 7) (hwa : wa < zN u ∧ wa ≠ l ∧ wa ≠ b0) (h250 : zR u wa 250 = some l) (hl : LA u l b0 0) (hlw : LW G u l b0) (hcl : L.2 l = 0) (hcb : 0 < zL u b0 → L.2 b0 = 0) (hS : ∀ f, f < nF W → ST L u f (cn f) (ca f) (W 18 f) ∧ 1 ≤ cn f ∧ cn f ≤ 1219) (hv : 0 ≤ v ∧ v ≤ 2000) : ∃ t cc nn, f6_isParted_l89 G (some wa) (some (L.1 146)) v NN 0 u = some (t, cc, nn) ∧ cc ≤ 24 ∧ nn ≤ 11200 ∧ SL G u t l b0 (nF W) cn ca := by
  have hR := h.1
  have hG : G.2.2.2.1 ≤ zN u := hR.2.2.2.2.1
  obtain ⟨l1, el1, a1, fb, j1, j2, j3, j4⟩ := hA
  obtain ⟨lb, k1, k2, k3, k4⟩ := hR.2.2.2.2.2.2
  have key := loop_ind (fun q (s : Nat × Sg) => f6_isParted_l89 G (some wa) (some (L.1 146)) v q (s.1 : Int) s.2) (fun s => 10 - s.1) (fun s => s.1 ≤ nF W ∧ SL G u s.2 l b0 s.1 cn ca) (fun s r => r.2.1 ≤ 3 * (nF W - s.1) ∧ r.2.2 ≤ 1400 * (nF W - s.1) ∧ SL G u r.1 l b0 (nF W) cn ca) (by
    rintro q ⟨f, t⟩ ⟨hf, hSL⟩ ih
    dsimp only at hf hSL ⊢
    show ok (f6_isParted_l89 G (some wa) (some (L.1 146)) v (q + 1) (f : Int) t) _
    unfold f6_isParted_l89
    obtain ⟨g1, g2, b, el, c1, c2, c3, c4⟩ := id hSL
    have col : ∀ q, L.2 q ≠ 0 → sam u t q := fun q hq => by
      refine g2 q (hR.2.2.1 q hq) (fun e => hq (by rw [e]; exact hcl)) ?_
      by_cases z : zL u b0 = 0
      · exact Or.inr z
      · exact Or.inl (fun e => hq (by rw [e]; exact hcb (by omega)))
    have sa : sam u t wa := g2 wa hwa.1 hwa.2.1 (Or.inl hwa.2.2)
    have tT : zT t wa = 7 := by rw [sa.1]; exact hT
    have J1 : LA t l1 fb (nF W) := LA_sam j1 (col l1 (by omega)) (col fb (by omega)) g1.1 (fun x hx => (g1.2 x hx).1)
    have K1 : LA t (L.1 146) lb 8 := LA_sam k1 (col _ (by omega)) (col lb (by omega)) g1.1 (fun x hx => (g1.2 x hx).1)
    refine ok_eq (gfR_v tT (show zR t wa 240 = some l1 by rw [sa.2.2.2.1]; exact a1)) (ok_eq (ztg_e J1.1) (ok_eq (J_size J1) ?_))
    rw [w32_n (by omega), w32_n (by omega)]
    refine ok_ite (fun hz => ok_some ⟨Nat.zero_le _, Nat.zero_le _, by rw [show nF W = f by omega]; exact hSL⟩) (fun hz => ?_)
    rw [w64_id (x := v) (by omega) (by omega)]
    refine ok_neg (by omega) ?_
    have hfn : f < nF W := by omega
    have f8 : f < 8 := by omega
    obtain ⟨⟨t1, t2, t3⟩, ⟨t4, t5, t6, t7⟩, t8⟩ := rSt hR f8
    obtain ⟨⟨y1, y2, y3⟩, y4, y5⟩ := hS f hfn
    have ss := col (L.1 (160 + f)) (by omega)
    have sr := col (L.1 (170 + f)) (by omega)
    have sg : sam u t lb := col lb (by omega)
    have hN := g1.1
    have lt1 := hR.2.2.1 (L.1 (160 + f)) (by omega)
    have lt2 := hR.2.2.1 (L.1 (170 + f)) (by omega)
    refine ok_eq (gfR_v tT (show zR t wa 250 = some l by rw [sa.2.2.2.1]; exact h250)) (ok_eq (ztg_e K1.1) (ok_eq (J_get K1 f rfl (by omega)) ?_))
    rw [sg.2.2.2.2.2, k4 f f8]
    refine ok_eq (zcast_1 (by rw [ss.1]; exact t1)) (ok_eq (ztg_e (by rw [ss.1]; exact t1)) ?_)
    obtain ⟨x1, e1, ⟨p1, p2⟩, p3, ⟨p4, p5, p6⟩, ⟨p7, p8⟩, p9⟩ := c_cut (G := G) (u := t) (s := L.1 (160 + f)) (rr := L.1 (170 + f)) (n := cn f) (a := ca f) (by omega) (by rw [ss.1]; exact t1) (by rw [ss.2.2.1]; exact y1) (by rw [ss.2.2.2.1]; exact t8) (by rw [sr.1]; exact t4) (by rw [sr.2.1]; exact t5) ⟨by omega, by omega⟩ y5 (fun k hk => by rw [sr.2.2.2.2.1]; exact y3 k hk)
    rw [e1, bdU_e]
    dsimp only
    have C1 : LA x1 l b f := LA_sam c1 (p2 l c1.2.2.2.2.2.2.1) (p2 b c1.2.2.2.2.2.2.2.1) p1.1 (fun x hx => (p1.2 x hx).1)
    have sb1 := p2 b c1.2.2.2.2.2.2.2.1
    have C2 : LW G x1 l b := ⟨c2.1, fun z => c2.2.1 (by rw [← sb1.2.1]; exact z), fun z => c2.2.2 (by rw [← sb1.2.1]; exact z)⟩
    rw [ztg_e C1.1, Option.bind_some]
    obtain ⟨b', x2, ⟨⟨r1, cc1, nn1⟩, e2, e2', e2c, e2s⟩, d1, d2, d3, d4, d5, d6, d7, d8⟩ := J_add (v := some (zN t)) C1 C2 (by omega) (by omega) shr32_1 (fun x hx => by cases hx; exact ⟨by rw [p4]; decide, by omega⟩)
    have e2' : r1 = (1, x2) := e2'
    subst e2'
    rw [e2, bdU_e]
    dsimp only
    have tb' : zT x2 b' = 105 := d1.2.2.2.1
    have tl : zT x2 l = 6 := d1.1
    have s12 : ∀ q, q < zN x1 → zT x1 q = 5 ∨ zT x1 q = 101 → sam x1 x2 q := fun q hq hqt => by
      have := (d6.2 q hq).1
      refine d8 q (fun e => ?_) (fun e => ?_)
      · rw [e, tl] at this; rw [e, ← this] at hqt; omega
      · rw [e, tb'] at this; rw [e, ← this] at hqt; omega
    have hb0 : b' = b → b = b0 → zL u b0 ≠ 0 := fun q1 q2 q3 => by
      have w1 := d1.2.2.2.2.1
      have w2 := (d6.2 b C1.2.2.2.2.2.2.2.1).2
      have w3 := (p1.2 b c1.2.2.2.2.2.2.2.1).2
      have w4 := (g1.2 b0 hl.2.2.2.2.2.2.2.1).2
      rw [q1, w2, w3, q2, w4, q3] at w1
      omega
    have hSL2 : SL G u x2 l b0 (f + 1) cn ca := by
      refine ⟨gro_tr g1 (gro_tr p1 d6), fun q q1 q2 q3 => sam_tr (g2 q q1 q2 q3) (sam_tr (p2 q (by omega)) (d8 q q2 (fun e => ?_))), b', fun g => if g = f then zN t else el g, d1, d2, ?_, fun g hg => ?_⟩
      · rcases d5 with z | z
        · rcases c3 with y | y
          · have := hb0 z y
            rcases q3 with q3 | q3
            · exact q3 (by rw [e, z, y])
            · exact this q3
          · omega
        · omega
      · rcases d5 with z | z
        · rw [z]; exact c3
        · right; omega
      · dsimp only
        by_cases gf : g = f
        · rw [if_pos gf, gf]
          refine ⟨d4, SC_k (t := x1) ⟨⟨by omega, by omega, p4, p5⟩, zN t + 1, p6, ⟨by omega, by omega, p7, p8⟩, p9⟩ d6 s12⟩
        · rw [if_neg gf]
          obtain ⟨w1, w2⟩ := c4 g (by omega)
          refine ⟨by rw [d3 g (by omega), sb1.2.2.2.2.2]; exact w1, SC_k (SC_k w2 p1 (fun q hq _ => p2 q hq)) d6 s12⟩
    obtain ⟨⟨rt, rc, rn⟩, e3, r1, r2, r3⟩ := ih (f + 1, x2) ⟨by show f + 1 ≤ nF W; omega, hSL2⟩ (by show 10 - (f + 1) < 10 - f; omega)
    dsimp only at r1 r2 r3
    have e3 : f6_isParted_l89 G (some wa) (some (L.1 146)) v q ((f : Int) + 1) x2 = some (rt, rc, rn) := e3
    rw [e3]
    have e2c : cc1 ≤ 1 := e2c
    have e2s : nn1 ≤ 2 * f + 12 := e2s
    exact ⟨_, rfl, by dsimp only [Option.map]; omega, by dsimp only [Option.map]; omega, r3⟩) NN (0, u) ⟨Nat.zero_le _, gro_rf, fun _ _ _ _ => sam_rf, b0, fun _ => 0, hl, hlw, Or.inl rfl, fun g hg => absurd hg (Nat.not_lt_zero _)⟩ (NN_gt (by show 10 - 0 < 100000; omega))
  obtain ⟨⟨t, cc, nn⟩, e, r1, r2, r3⟩ := key
  dsimp only at r1 r2
  exact ⟨t, cc, nn, e, by omega, by omega, r3⟩
