/-! THE READER: names are looked up -/
/-- a fact of a wording in the heap, its cells in Z -/
def FZ (Z : Nat → Prop) (t : Sg) (W : Wv) (b f : Nat) : Prop := Z b ∧ zT t b = 10 ∧ NM (zI t b 360) (W 13 f) ∧ zI t b 361 = W 14 f ∧ zI t b 363 = W 15 f ∧ zI t b 364 = W 17 f ∧ zI t b 365 = W 18 f ∧ (0 ≤ W 14 f ∧ W 14 f ≤ 2 ∧ 0 ≤ W 15 f ∧ W 15 f ≤ 6) ∧ ∃ c, zR t b 362 = some c ∧ Z c ∧ zT t c = 104 ∧ zL t c = 6 ∧ ∀ k : Nat, (k : Int) < W 15 f → NM (zA t c k) (W 16 (6 * f + k))
/-- the facts and meanings of the wording at a -/
def LK (Z : Nat → Prop) (t : Sg) (a : Nat) (W : Wv) : Prop := (Z a ∧ zT t a = 7) ∧ (W 12 0 = (nF W : Int) ∧ nF W ≤ 8 ∧ W 19 0 = (nM W : Int) ∧ nM W ≤ 12) ∧ (∃ (l b : Nat) (el : Nat → Nat), zR t a 240 = some l ∧ LA t l b (nF W) ∧ Z l ∧ Z b ∧ (∀ i, i < nF W → zB t b i = some (el i)) ∧ ∀ f, f < nF W → FZ Z t W (el f) f) ∧ (∃ (l b : Nat) (el : Nat → Nat), zR t a 241 = some l ∧ LA t l b (nM W) ∧ Z l ∧ Z b ∧ (∀ i, i < nM W → zB t b i = some (el i)) ∧ ∀ k, k < nM W → Z (el k) ∧ zT t (el k) = 29 ∧ NM (zI t (el k) 1120) (W 20 k))
theorem FZ_k {Z Z' : Nat → Prop} {t t' : Sg} {W : Wv} {b f : Nat} (hs : ∀ q, Z q → sam t t' q ∧ Z' q) (h : FZ Z t W b f) : FZ Z' t' W b f := by
  obtain ⟨h1, h2, h3, h4, h5, h6, h7, h8, c, c1, c2, c3, c4, c5⟩ := h
  obtain ⟨⟨p1, p2, p3, p4, p5, p6⟩, p7⟩ := hs b h1
  obtain ⟨⟨q1, q2, q3, q4, q5, q6⟩, q7⟩ := hs c c2
  exact ⟨p7, by rw [p1]; exact h2, by rw [p3]; exact h3, by rw [p3]; exact h4, by rw [p3]; exact h5, by rw [p3]; exact h6, by rw [p3]; exact h7, h8, c, by rw [p4]; exact c1, q7, by rw [q1]; exact c3, by rw [q2]; exact c4, by rw [q5]; exact c5⟩
theorem LK_k {Z Z' : Nat → Prop} {t t' : Sg} {a : Nat} {W : Wv} (hs : ∀ q, Z q → sam t t' q ∧ Z' q) (hg : gro t t') (h : LK Z t a W) : LK Z' t' a W := by
  obtain ⟨⟨a1, a2⟩, hb, ⟨l, b, el, b1, b2, b3, b4, b5, b6⟩, ⟨l', b', el', c1, c2, c3, c4, c5, c6⟩⟩ := h
  obtain ⟨⟨p1, p2, p3, p4, p5, p6⟩, p7⟩ := hs a a1
  refine ⟨⟨p7, by rw [p1]; exact a2⟩, hb, ⟨l, b, el, by rw [p4]; exact b1, LA_sam b2 (hs l b3).1 (hs b b4).1 hg.1 (fun x hx => (hg.2 x hx).1), (hs l b3).2, (hs b b4).2, fun i hi => by rw [(hs b b4).1.2.2.2.2.2]; exact b5 i hi, fun f hf => FZ_k hs (b6 f hf)⟩, ⟨l', b', el', by rw [p4]; exact c1, LA_sam c2 (hs l' c3).1 (hs b' c4).1 hg.1 (fun x hx => (hg.2 x hx).1), (hs l' c3).2, (hs b' c4).2, fun i hi => by rw [(hs b' c4).1.2.2.2.2.2]; exact c5 i hi, fun k hk => ?_⟩⟩
  obtain ⟨q1, q2, q3⟩ := c6 k hk
  obtain ⟨⟨r1, r2, r3, r4⟩, r5⟩ := hs _ q1
  exact ⟨r5, by rw [r1]; exact q2, by rw [r3]; exact q3⟩
theorem nm_eq {x y x' y' : Int} (h : NM x y) (h' : NM x' y') : (w64 x = w64 x') ↔ (w64 y = w64 y') := by
  obtain ⟨h1, h2, h3⟩ := NM_iff h h'
  rw [h2, h3]; exact h1
theorem lk_fact {Z : Nat → Prop} {G : CG} {t : Sg} {m : Mu} {a w : Nat} {W : Wv} (h : LK Z t a W) (hw : slc m w = W) (hw13 : w ≤ 13) {x y : Int} (hn : NM x y) : ∃ v : Int, f6_fact G (some a) x t = some v ∧ m5_factOf w y m = some v ∧ (v = -1 ∨ ∃ f : Nat, f < nF W ∧ v = (f : Int)) := by
  obtain ⟨⟨a1, a2⟩, ⟨hb1, hb2, hb3, hb4⟩, ⟨l, b, el, b1, b2, b3, b4, b5, b6⟩, -⟩ := h
  have key := sim_loop (fun q (i : Nat) => f6_fact_l2 G (some a) x t q (i : Int)) (fun q (i : Nat) => m5_factOf_l3 w y m q (i : Int)) (fun i _ => nF W - i) (fun i j => i = j ∧ i ≤ nF W) (fun p q => (p = .inr () ∧ q = .inr ()) ∨ ∃ f : Nat, f < nF W ∧ p = .inl (f : Int) ∧ q = .inl (f : Int)) (by
    rintro n k i j ⟨rfl, hi⟩ ih
    show sim (f6_fact_l2 G (some a) x t (n + 1) (i : Int)) (m5_factOf_l3 w y m (k + 1) (i : Int)) _
    unfold f6_fact_l2 m5_factOf_l3
    have e12 : mald m 12 14 (w : Int) = some (nF W : Int) := by rw [← hb1, ← hw]; exact m_sl (w := w) (k := 12) (j := 0) (by decide) (by show (w : Int) = ((1 * w + 0 : Nat) : Int); omega) (by show 1 * w + 0 < 14; omega) (by omega)
    refine sim_L (gfR_v a2 b1) (sim_L (ztg_e b2.1) (sim_L (J_size b2) (sim_R e12 ?_)))
    rw [w32_n (by omega), w32_n (by omega)]
    refine sim_ite Iff.rfl (fun _ => sim_some (Or.inl ⟨rfl, rfl⟩)) (fun hz => ?_)
    have hin : i < nF W := by omega
    obtain ⟨f1, f2, f3, -⟩ := b6 i hin
    have e13 : mald m 13 112 (8 * (w : Int) + i) = some (W 13 i) := by rw [← hw]; exact m_sl (w := w) (k := 13) (j := i) (by show i < 8; omega) (by show 8 * (w : Int) + i = ((8 * w + i : Nat) : Int); omega) (by show 8 * w + i < 112; omega) (by omega)
    refine sim_L (gfR_v a2 b1) (sim_L (ztg_e b2.1) (sim_L (J_get b2 i rfl hin) ?_))
    rw [b5 i hin]
    refine sim_L (zcast_1 f2) (sim_L (gfI_e f2) (sim_R e13 ?_))
    exact sim_ite (nm_eq f3 hn) (fun _ => sim_some (Or.inr ⟨i, hin, rfl, rfl⟩)) (fun _ => ih (i + 1) (i + 1) ⟨rfl, by omega⟩ (by omega))) NN NN 0 0 ⟨rfl, Nat.zero_le _⟩ (NN_gt (by omega)) (NN_gt (by omega))
  obtain ⟨p, q, e1, e2, hr⟩ := key
  have e1 : f6_fact_l2 G (some a) x t NN 0 = some p := e1
  have e2 : m5_factOf_l3 w y m NN 0 = some q := e2
  unfold f6_fact m5_factOf
  rw [e1, e2, Option.bind_some, Option.bind_some]
  rcases hr with ⟨rfl, rfl⟩ | ⟨f, hf, rfl, rfl⟩
  · exact ⟨-1, rfl, rfl, Or.inl rfl⟩
  · exact ⟨f, rfl, rfl, Or.inr ⟨f, hf, rfl⟩⟩
theorem lk_mean {Z : Nat → Prop} {G : CG} {t : Sg} {m : Mu} {a w : Nat} {W : Wv} (h : LK Z t a W) (hw : slc m w = W) (hw13 : w ≤ 13) {x y : Int} (hn : NM x y) : ∃ v : Int, f6_meaning G (some a) x t = some v ∧ m5_meanOf w y m = some v ∧ (v = -1 ∨ ∃ f : Nat, f < nM W ∧ v = (f : Int)) := by
  obtain ⟨⟨a1, a2⟩, ⟨hb1, hb2, hb3, hb4⟩, -, ⟨l, b, el, b1, b2, b3, b4, b5, b6⟩⟩ := h
  have key := sim_loop (fun q (i : Nat) => f6_meaning_l2 G (some a) x t q (i : Int)) (fun q (i : Nat) => m5_meanOf_l3 w y m q (i : Int)) (fun i _ => nM W - i) (fun i j => i = j ∧ i ≤ nM W) (fun p q => (p = .inr () ∧ q = .inr ()) ∨ ∃ f : Nat, f < nM W ∧ p = .inl (f : Int) ∧ q = .inl (f : Int)) (by
    rintro n k i j ⟨rfl, hi⟩ ih
    show sim (f6_meaning_l2 G (some a) x t (n + 1) (i : Int)) (m5_meanOf_l3 w y m (k + 1) (i : Int)) _
    unfold f6_meaning_l2 m5_meanOf_l3
    have e19 : mald m 19 14 (w : Int) = some (nM W : Int) := by rw [← hb3, ← hw]; exact m_sl (w := w) (k := 19) (j := 0) (by decide) (by show (w : Int) = ((1 * w + 0 : Nat) : Int); omega) (by show 1 * w + 0 < 14; omega) (by omega)
    refine sim_L (gfR_v a2 b1) (sim_L (ztg_e b2.1) (sim_L (J_size b2) (sim_R e19 ?_)))
    rw [w32_n (by omega), w32_n (by omega)]
    refine sim_ite Iff.rfl (fun _ => sim_some (Or.inl ⟨rfl, rfl⟩)) (fun hz => ?_)
    have hin : i < nM W := by omega
    obtain ⟨f1, f2, f3⟩ := b6 i hin
    have e20 : mald m 20 168 (12 * (w : Int) + i) = some (W 20 i) := by rw [← hw]; exact m_sl (w := w) (k := 20) (j := i) (by show i < 12; omega) (by show 12 * (w : Int) + i = ((12 * w + i : Nat) : Int); omega) (by show 12 * w + i < 168; omega) (by omega)
    refine sim_L (gfR_v a2 b1) (sim_L (ztg_e b2.1) (sim_L (J_get b2 i rfl hin) ?_))
    rw [b5 i hin]
    have elv : fJ15_longValue G (some (el i)) t = some (zI t (el i) 1120) := by unfold fJ15_longValue; rw [gfI_e f2]; rfl
    refine sim_L (zcast_1 f2) (sim_L (ztg_e f2) (sim_L elv (sim_R e20 ?_)))
    exact sim_ite (nm_eq f3 hn) (fun _ => sim_some (Or.inr ⟨i, hin, rfl, rfl⟩)) (fun _ => ih (i + 1) (i + 1) ⟨rfl, by omega⟩ (by omega))) NN NN 0 0 ⟨rfl, Nat.zero_le _⟩ (NN_gt (by omega)) (NN_gt (by omega))
  obtain ⟨p, q, e1, e2, hr⟩ := key
  have e1 : f6_meaning_l2 G (some a) x t NN 0 = some p := e1
  have e2 : m5_meanOf_l3 w y m NN 0 = some q := e2
  unfold f6_meaning m5_meanOf
  rw [e1, e2, Option.bind_some, Option.bind_some]
  rcases hr with ⟨rfl, rfl⟩ | ⟨f, hf, rfl, rfl⟩
  · exact ⟨-1, rfl, rfl, Or.inl rfl⟩
  · exact ⟨f, rfl, rfl, Or.inr ⟨f, hf, rfl⟩⟩
/-- a choice of a fact; i: the fact's place on the twin's side, n: how many there are -/
theorem lk_choice {G : CG} {t : Sg} {m : Mu} {b c i n : Nat} (hT : zT t b = 10) (hn : zI t b 363 = (n : Int)) (hn6 : n ≤ 6) (hR : zR t b 362 = some c) (hc : zT t c = 104) (hcl : zL t c = 6) (hi : i < 112) (h15 : m.2 15 i = (n : Int)) (hN : ∀ k, k < n → NM (zA t c k) (m.2 16 (6 * i + k))) {x y : Int} (hxy : NM x y) : ∃ v : Int, f9_choice G (some b) x t = some v ∧ m5_choiceOf i y m = some v ∧ (v = -1 ∨ ∃ f : Nat, f < n ∧ v = (f : Int)) := by
  have key := sim_loop (fun q (j : Nat) => f9_choice_l2 G (some b) x t q (j : Int)) (fun q (j : Nat) => m5_choiceOf_l3 i y m q (j : Int)) (fun j _ => n - j) (fun j k => j = k ∧ j ≤ n) (fun p q => (p = .inr () ∧ q = .inr ()) ∨ ∃ f : Nat, f < n ∧ p = .inl (f : Int) ∧ q = .inl (f : Int)) (by
    rintro n' k j j' ⟨rfl, hj⟩ ih
    show sim (f9_choice_l2 G (some b) x t (n' + 1) (j : Int)) (m5_choiceOf_l3 i y m (k + 1) (j : Int)) _
    unfold f9_choice_l2 m5_choiceOf_l3
    refine sim_L (gfI_v hT hn) (sim_mald i rfl (by omega) (by omega) ?_)
    rw [h15, w32_n (by omega), w32_n (by omega)]
    refine sim_ite Iff.rfl (fun _ => sim_some (Or.inl ⟨rfl, rfl⟩)) (fun hz => ?_)
    have hin : j < n := by omega
    refine sim_L (gfR_v hT hR) (sim_L (alI_e j hc rfl (by omega) (by omega)) (sim_mald (6 * i + j) (by omega) (by omega) (by omega) ?_))
    exact sim_ite (nm_eq (hN j hin) hxy) (fun _ => sim_some (Or.inr ⟨j, hin, rfl, rfl⟩)) (fun _ => ih (j + 1) (j + 1) ⟨rfl, by omega⟩ (by omega))) NN NN 0 0 ⟨rfl, Nat.zero_le _⟩ (NN_gt (by omega)) (NN_gt (by omega))
  obtain ⟨p, q, e1, e2, hr⟩ := key
  have e1 : f9_choice_l2 G (some b) x t NN 0 = some p := e1
  have e2 : m5_choiceOf_l3 i y m NN 0 = some q := e2
  unfold f9_choice m5_choiceOf
  rw [e1, e2, Option.bind_some, Option.bind_some]
  rcases hr with ⟨rfl, rfl⟩ | ⟨f, hf, rfl, rfl⟩
  · exact ⟨-1, rfl, rfl, Or.inl rfl⟩
  · exact ⟨f, rfl, rfl, Or.inr ⟨f, hf, rfl⟩⟩
/-! a node is counted -/
theorem node7 {G : CG} {L : Ly} {t : Sg} {m : Mu} {r : Nat} (h : R7 G L t m r) (hk : m.1 4 ≠ 0) (hc : m.1 52 ≤ m.1 5) : (∃ t', f7_node G (some r) t = some ((.inr (), t'), 0, 0) ∧ m5_countNode m = some (ms m 52 (m.1 52 + 1)) ∧ R7 G L t' (ms m 52 (m.1 52 + 1)) r ∧ fr7 r t t' ∧ zN t' = zN t ∧ zI t' r 287 = zI t r 287) ∨ (∃ e t' m', f7_node G (some r) t = some ((.inl e, t'), 1, 8) ∧ TH7 r t (m.1 5) e t' 1 8 6 (m.1 5) ∧ m5_countNode m = some m' ∧ MF m m' 6 (m.1 5) ∧ (∀ k, k ≠ 8 → k ≠ 9 → k ≠ 52 → m'.1 k = m.1 k) ∧ m'.2 = m.2) := by
  obtain ⟨h1, h2, h3, ⟨h4, h40⟩, h5, h6⟩ := id h
  obtain ⟨t1, t2, t3, t4, t5, t6⟩ := id h3
  have hlt : m.1 5 < m.1 2 := by
    rcases t6 with z | z
    · exact absurd z.2.1 hk
    · have := z.1; omega
  have h2b := h1.2.1.2.2
  obtain ⟨g1, hg1⟩ : ∃ g1, g1 = va_up (zI t r) 288 (m.1 52 + 1) := ⟨_, rfl⟩
  have eg : rI t r g1 = zsI t r 288 (m.1 52 + 1) := by rw [hg1]; have := rI_set (t := t) (r := r) (g := 288) (f := zI t r) (v := m.1 52 + 1); rw [rI_id] at this; exact this.symm
  have hfr : fr7 r t (rI t r g1) := fr7_rI (by rw [hg1, up_o (by decide)])
  have hO : ∀ k, k ≠ 288 → g1 k = zI t r k := fun k hk => by rw [hg1, up_o hk]
  have hms : ∀ k, k ≠ 52 → (ms m 52 (m.1 52 + 1)).1 k = m.1 k := fun k hk => by rw [ms_1, if_neg hk]
  have hX1 : TX G L (rI t r g1) (ms m 52 (m.1 52 + 1)) r := TX_k h1 ⟨h2.2.2.1, h2.2.2.2.1, h2.2.2.2.2.1, h2.2.2.2.2.2⟩ hfr (hms 2 (by decide)) rfl rfl
  have hT1 : TKR (zI (rI t r g1) r) (ms m 52 (m.1 52 + 1)).1 ((ms m 52 (m.1 52 + 1)).1 2) := by
    rw [rI_I]
    unfold TKR
    rw [hms 2 (by decide), hms 3 (by decide), hms 4 (by decide), hms 5 (by decide), hms 6 (by decide), hms 7 (by decide), hO 280 (by decide), hO 281 (by decide), hO 282 (by decide), hO 283 (by decide), hO 284 (by decide), hO 285 (by decide)]
    exact h3
  have hR1 : m.1 52 + 1 ≤ m.1 47 → R7 G L (rI t r g1) (ms m 52 (m.1 52 + 1)) r := fun hz => by
    refine ⟨hX1, h2, hT1, ?_, ?_, ?_⟩
    · rw [rI_I, hg1, up_s, ms_1, if_pos rfl, hms 2 (by decide), hms 47 (by decide)]; exact ⟨rfl, ⟨by omega, hz⟩, h40.2⟩
    · rw [rI_I, hO 289 (by decide), hms 47 (by decide)]; exact h5
    · rw [hms 8 (by decide)]; exact h6
  have g89 : zI (rI t r g1) r 289 = zI t r 289 := by rw [rI_I]; exact hO 289 (by decide)
  unfold f7_node m5_countNode
  rw [gfI_v h1.1.1 h4, Option.bind_some, pfI_e h1.1.1 h1.1.2.1, Option.bind_some, ← eg, gfI_v (show zT (rI t r g1) r = 8 from h1.1.1) g89, Option.bind_some, Option.bind_some]
  have hm52 : (ms m 52 (m.1 52 + 1)).1 52 = m.1 52 + 1 := by rw [ms_1, if_pos rfl]
  rw [hm52, hms 47 (by decide), w32_id (x := m.1 52 + 1) (by omega) (by omega)]
  rcases h5 with ⟨l1, l2⟩ | ⟨l1, l2⟩
  · rw [l1, l2, show w32 300 = 300 from rfl]
    by_cases z : m.1 52 + 1 ≤ 300
    · left
      rw [if_pos z, if_pos z]
      exact ⟨rI t r g1, rfl, rfl, hR1 (by omega), hfr, rfl, by rw [rI_I]; exact hO 287 (by decide)⟩
    · right
      rw [if_neg z, if_neg z]
      obtain ⟨t', e, hth⟩ := c_throw0 (α := Unit) hX1 ⟨h2.1, h2.2.1⟩ hT1 (by rw [hms 2 (by decide)]; exact h40.2) 6
      obtain ⟨m', em, hm, hm2, hm3⟩ := m_wrong (m := ms m 52 (m.1 52 + 1)) (by rw [hms 8 (by decide)]; exact h6) 6
      rw [hms 5 (by decide)] at hth hm
      refine ⟨_, t', m', e, ?_, by rw [em]; rfl, ⟨hm.1, hm.2.1, mfr_tr (mfr_ms mfr_rf (by decide)) hm.2.2⟩, fun k k1 k2 k3 => by rw [hm2 k k1 k2]; exact hms k k3, hm3⟩
      obtain ⟨q1, q2, q3, q4, q5, q6, q7, q8⟩ := hth
      exact ⟨q1, q2, q3, q4, fr7_tr hfr q5, q6, q7, q8⟩
  · rw [l1, l2, show w32 4000 = 4000 from rfl, show w32 5000 = 5000 from rfl]
    left
    rw [if_pos (by omega), if_pos (by omega)]
    exact ⟨rI t r g1, rfl, rfl, hR1 (by omega), hfr, rfl, by rw [rI_I]; exact hO 287 (by decide)⟩
/-- a token of the kind K is wanted -/
theorem want_kind {G : CG} {L : Ly} {t : Sg} {m : Mu} {r : Nat} (h : R7 G L t m r) {K : Int} (hK : 0 ≤ K ∧ K ≤ 4) : (m.1 4 = K ∧ f7_wantKind G (some r) K t = some ((.inr (), t), 0, 0)) ∨ (m.1 4 ≠ K ∧ ∃ e t', f7_wantKind G (some r) K t = some ((.inl e, t'), 1, 8) ∧ TH7 r t (m.1 5) e t' 1 8 2 (m.1 5)) := by
  obtain ⟨k1, -⟩ := tk_w h.2.2.1
  unfold f7_wantKind
  rw [gfI_v h.1.1.1 k1.2.2.2, Option.bind_some, k1.2.2.1, w32_id (x := K) (by omega) (by omega)]
  by_cases z : m.1 4 = K
  · left; rw [if_pos z]; exact ⟨z, rfl⟩
  · right
    obtain ⟨t', e, hth⟩ := c_throw (α := Unit) h 2
    refine ⟨z, _, t', ?_, hth⟩
    rw [if_neg z]; exact e
