/-! THE READER: next, both sides -/
theorem sim_L_eq {α β : Type} {x : Option α} {a : α} {y : Option β} {R : α → β → Prop} (e : x = some a) (k : sim (some a) y R) : sim x y R := by rw [e]; exact k
theorem next_ok {G : CG} {L : Ly} {t : Sg} {m : Mu} {r : Nat} (h : TX G L t m r) (hG : G0 G ≤ zN t) (hr : r < zN t) {g : Nat → Int} (hg : g 280 = m.1 3) (h0 : 0 ≤ m.1 3) (h1 : m.1 3 ≤ m.1 2) : sim (f7_next G (some r) (rI t r g)) (m5_next m) (NXT t r m g) := by
  have b34 := h.2.1.2.2
  have e8 : ∀ g', zT (rI t r g') r = 8 := fun _ => h.1.1
  have hp := pass_all h (f := g) h0 h1
  rw [show tPo t r g (m.1 3) = rI t r g by show rI t r (va_up g 280 (m.1 3)) = _; rw [up_id hg], show mP m (m.1 3) = m by show (va_up m.1 3 (m.1 3), m.2) = m; rw [up_id rfl]] at hp
  unfold f7_next m5_next
  refine sim_L (ztg_e (e8 g)) (sim_bind hp ?_)
  rintro _ _ ⟨q, q1, q2, rfl, rfl⟩
  refine sim_L (gf8 h.1.1) (sim_L (pf8 h.1.1 h.1.2.1) (sim_L (gf8 h.1.1) (sim_S ?_)))
  rw [mP_3, ms_e, up_s, up_o (show 280 ≠ 282 by decide), up_s]
  obtain ⟨g1, hg1⟩ : ∃ g1, g1 = va_up (va_up g 280 q) 282 q := ⟨_, rfl⟩
  obtain ⟨s1, hs1⟩ : ∃ s1, s1 = va_up (va_up m.1 3 q) 5 q := ⟨_, rfl⟩
  rw [← hg1]
  show sim _ ((m5_octet ((va_up (va_up m.1 3 q) 5 q) 3) (va_up (va_up m.1 3 q) 5 q, m.2)).bind _) _
  rw [← hs1]
  have g80 : g1 280 = q := by rw [hg1, up_o (by decide), up_s]
  have g82 : g1 282 = q := by rw [hg1, up_s]
  have gO : ∀ k, (k < 280 ∨ 285 < k) → g1 k = g k := fun k hk => by rw [hg1, up_o (by omega), up_o (by omega)]
  have s3 : s1 3 = q := by rw [hs1, up_o (by decide), up_s]
  have s5 : s1 5 = q := by rw [hs1, up_s]
  have s2 : s1 2 = m.1 2 := by rw [hs1, up_o (by decide), up_o (by decide)]
  have sO : ∀ k, (k < 3 ∨ 7 < k) → s1 k = m.1 k := fun k hk => by rw [hs1, up_o (by omega), up_o (by omega)]
  have mo : m5_octet q (s1, m.2) = some (oc m q) := by
    rw [m_oct (m := (s1, m.2)) (by show 0 ≤ s1 2 ∧ s1 2 ≤ 4000; rw [s2]; exact ⟨b34.1, b34.2.1⟩) (by omega) (by omega), oc_cg (m := m) (m' := (s1, m.2)) s2 rfl]
  rw [s3]
  refine sim_L (ztg_e (e8 g1)) (sim_L (c_oct h (by omega) (by omega)) (sim_R mo ?_))
  rw [oc_w]
  refine sim_ite Iff.rfl (fun hpos => ?_) (fun hneg => ?_)
  · have hqs := oc_in hpos
    refine sim_L (ztg_e (e8 g1)) (sim_L (c_let (oc_w _ _)) (sim_R (m_let (oc_w _ _)) ?_))
    rw [w32_b2i]
    by_cases hL : isL (oc m q)
    · -- a name
      rw [decide_eq_true hL]
      refine sim_negL (by decide) (sim_negR (by decide) ?_)
      refine sim_L (pf8 h.1.1 h.1.2.1) ?_
      unfold m5_nextName
      rw [Option.bind_some, ms_e, Option.bind_some, ms_e]
      dsimp only
      have hn := lex_name h (g0 := va_up g1 283 0) (s0 := va_up (va_up s1 4 1) 6 0) (q0 := q) (by omega) q2 (by rw [up_o (by decide), up_o (by decide)]; exact s2) (by rw [up_o (by decide)]; exact g80) (by rw [up_o (by decide), up_o (by decide)]; exact s3) up_s up_s
      obtain ⟨a, b, e1, e2, g', s', cs, ea, eb, hc, c1, c2, c3, c4, c5, c6, c7, c8⟩ := hn
      subst ea eb
      have hlen : 1 ≤ cs.length := by
        refine Classical.byContradiction fun z => ?_
        rw [show cs.length = 0 by omega] at c7
        rw [show q + ((0 : Nat) : Int) = q by omega] at c7
        exact c7 hL
      rw [e1, e2, bdU_z, Option.bind_some]
      dsimp only
      have g82' : g' 282 = q := by rw [c5 282 (by decide) (by decide), up_o (by decide)]; exact g82
      have s5' : s' 5 = q := by rw [c6 5 (by decide) (by decide), up_o (by decide), up_o (by decide)]; exact s5
      have s4' : s' 4 = 1 := by rw [c6 4 (by decide) (by decide), up_o (by decide), up_s]
      have gO' : ∀ k, (k < 280 ∨ 285 < k) → g' k = g k := fun k hk => by rw [c5 k (by omega) (by omega), up_o (by omega)]; exact gO k hk
      have sO' : ∀ k, (k < 3 ∨ 7 < k) → s' k = m.1 k := fun k hk => by rw [c6 k (by omega) (by omega), up_o (by omega), up_o (by omega)]; exact sO k hk
      refine sim_L (gf8 h.1.1) (sim_L (gf8 h.1.1) ?_)
      rw [c1, g82', show q + (cs.length : Int) - q = cs.length by omega, w32_n (by omega)]
      by_cases h8 : (cs.length : Int) ≤ 8
      · rw [if_pos h8, if_pos h8]
        obtain ⟨x1, x2⟩ := c4 (by omega)
        obtain ⟨bw, w1, w2⟩ := c_wd h (g := g') hc (by omega)
        refine sim_L (gfR_v (e8 g') (show zR (rI t r g') r 290 = _ from h.1.2.2.1)) (sim_L (gf8 h.1.1) (sim_L (ztg_e (show zT (rI t r g') (L.1 3) = 1 from h.2.1.1)) ?_))
        rw [x1]
        refine sim_L w1 ?_
        rw [w32_b2i]
        unfold m5_nextName_b94
        rcases m_wd (A := m.2) (s := s') (fun i hi => (h.2.2.2.2.2 i hi).2) hc (by omega) s4' x2 with ⟨i, i1, i2, i3⟩ | ⟨i1, i3⟩
        · have hb : bw = true := w2.mpr ⟨i, i1, i2⟩
          rw [hb, i3, Option.bind_some]
          refine sim_negL (by decide) (sim_L (pf8 h.1.1 h.1.2.1) (sim_some ?_))
          have hf : ∀ k, (k < 3 ∨ 7 < k) → (va_up (va_up s' 4 4) 7 (i : Int)) k = m.1 k := fun k hk => by rw [up_o (by omega), up_o (by omega)]; exact sO' k hk
          refine ⟨rfl, hf, ?_, ?_, Or.inl ⟨va_up g' 281 4, rfl, fun k hk => by rw [up_o (by omega)]; exact gO' k hk, ?_⟩⟩
          · show m.1 3 ≤ (va_up (va_up s' 4 4) 7 (i : Int)) 5; rw [up_o (by decide), up_o (by decide), s5']; exact q1
          · show (va_up (va_up s' 4 4) 7 (i : Int)) 5 ≤ _; rw [up_o (by decide), up_o (by decide), s5']; exact q2
          · show TKR (va_up g' 281 4) (va_up (va_up s' 4 4) 7 (i : Int)) (m.1 2)
            unfold TKR
            rw [up_o (show 282 ≠ 281 by decide), up_o (show 280 ≠ 281 by decide), up_s, up_o (show 283 ≠ 281 by decide)]
            have k3 : (va_up (va_up s' 4 4) 7 (i : Int)) 3 = q + cs.length := by rw [up_o (by decide), up_o (by decide)]; exact c2
            have k5 : (va_up (va_up s' 4 4) 7 (i : Int)) 5 = q := by rw [up_o (by decide), up_o (by decide)]; exact s5'
            have k4 : (va_up (va_up s' 4 4) 7 (i : Int)) 4 = 4 := by rw [up_o (by decide), up_s]
            have k7 : (va_up (va_up s' 4 4) 7 (i : Int)) 7 = (i : Int) := up_s
            rw [k5, k3, k4, k7, g82', c1, x1]
            exact ⟨rfl, rfl, by omega, by omega, c3, Or.inr ⟨by omega, Or.inr (Or.inr (Or.inr ⟨rfl, rfl, i, i1, rfl, by rw [i2]⟩))⟩⟩
        · have hb : bw = false := by
            cases hh : bw
            · rfl
            · exact absurd (w2.mp hh) i1
          rw [hb, i3, Option.bind_some]
          refine sim_posL rfl (sim_L (pf8 h.1.1 h.1.2.1) (sim_some ?_))
          refine ⟨rfl, sO', ?_, ?_, Or.inl ⟨va_up g' 281 1, rfl, fun k hk => by rw [up_o (by omega)]; exact gO' k hk, ?_⟩⟩
          · show m.1 3 ≤ s' 5; rw [s5']; exact q1
          · show s' 5 ≤ _; rw [s5']; exact q2
          · show TKR (va_up g' 281 1) s' (m.1 2)
            unfold TKR
            rw [up_o (show 282 ≠ 281 by decide), up_o (show 280 ≠ 281 by decide), up_s, up_o (show 283 ≠ 281 by decide)]
            rw [s5', c2, g82', c1, x1]
            refine ⟨rfl, rfl, by omega, by omega, c3, Or.inr ⟨by omega, Or.inl ⟨rfl, s4', cs, hc, hlen, by omega, rfl, ?_⟩⟩⟩
            exact x2
      · rw [if_neg h8, if_neg h8]
        obtain ⟨u', e, hf⟩ := c_flt (α := Unit) (G := G) (u := rI t r g') (r := r) (K := 1) (P := q) hG hr h.1.1 (by rw [rI_I]; exact g82')
        refine sim_L_eq e ?_
        rw [Option.bind_some, ms_e]
        unfold m5_nextName_b94
        have e96 : m5_nextName_l96 NN 0 (va_up s' 4 5, m.2) = some (va_up s' 4 5, m.2) := by
          obtain ⟨N, hN⟩ : ∃ N, NN = N + 1 := ⟨NN - 1, by have := NN_ge; omega⟩
          rw [hN]
          unfold m5_nextName_l96
          rw [if_neg (by decide)]
          show (if w32 (va_up s' 4 5 4) = 1 then _ else _) = _
          rw [up_s, if_neg (by decide)]
        rw [e96, Option.bind_some]
        have k5 : (va_up s' 4 5) 5 = q := by rw [up_o (by decide)]; exact s5'
        refine sim_some ⟨rfl, fun k hk => by show (va_up s' 4 5) k = _; rw [up_o (by omega)]; exact sO' k hk, ?_, ?_, Or.inr ⟨g', u', rfl, gO', ?_, ?_, ?_⟩⟩
        · show m.1 3 ≤ (va_up s' 4 5) 5; rw [k5]; exact q1
        · show (va_up s' 4 5) 5 ≤ _; rw [k5]; exact q2
        · show FLT (rI t r g') (zN t) 1 ((va_up s' 4 5) 5) u'; rw [k5]; exact hf
        · exact up_s (f := s') (k := 4) (v := 5)
        · show (va_up s' 4 5) 5 < _; rw [k5]; exact hqs
    · rw [decide_eq_false hL]
      refine sim_posL rfl (sim_posR rfl ?_)
      refine sim_L (ztg_e (e8 g1)) (sim_L (c_fig (oc_w _ _)) (sim_R (m_fig (oc_w _ _)) ?_))
      rw [w32_b2i]
      by_cases hD : isD (oc m q)
      · -- figures
        rw [decide_eq_true hD]
        refine sim_negL (by decide) (sim_negR (by decide) ?_)
        refine sim_L (pf8 h.1.1 h.1.2.1) (sim_L (pf8 h.1.1 h.1.2.1) ?_)
        unfold m5_nextNumber
        rw [Option.bind_some, ms_e, Option.bind_some, ms_e]
        dsimp only
        have hn := lex_num h (g0 := va_up (va_up g1 281 2) 284 0) (s0 := va_up (va_up s1 4 2) 7 0) (q0 := q) (by omega) q2 (by rw [up_o (by decide), up_o (by decide)]; exact s2) (by rw [up_o (by decide), up_o (by decide)]; exact g80) (by rw [up_o (by decide), up_o (by decide)]; exact g82) (by rw [up_o (by decide), up_o (by decide)]; exact s3) up_s up_s
        obtain ⟨a, b, e1, e2, g', s', n, ea, eb, c1, c2, c3, c4, c5, c6, c7, c8, c9⟩ := hn
        subst ea eb
        have hlen : 1 ≤ n := by
          refine Classical.byContradiction fun z => ?_
          rw [show n = 0 by omega] at c9
          rw [show q + ((0 : Nat) : Int) = q by omega] at c9
          exact c9 hD
        rw [e1, e2, bdU_z, Option.bind_some]
        dsimp only
        have g82' : g' 282 = q := by rw [c7 282 (by decide) (by decide), up_o (by decide), up_o (by decide)]; exact g82
        have g81' : g' 281 = 2 := by rw [c7 281 (by decide) (by decide), up_o (by decide), up_s]
        have s5' : s' 5 = q := by rw [c8 5 (by decide) (by decide), up_o (by decide), up_o (by decide)]; exact s5
        have s4' : s' 4 = 2 := by rw [c8 4 (by decide) (by decide), up_o (by decide), up_s]
        have gO' : ∀ k, (k < 280 ∨ 285 < k) → g' k = g k := fun k hk => by rw [c7 k (by omega) (by omega), up_o (by omega), up_o (by omega)]; exact gO k hk
        have sO' : ∀ k, (k < 3 ∨ 7 < k) → s' k = m.1 k := fun k hk => by rw [c8 k (by omega) (by omega), up_o (by omega), up_o (by omega)]; exact sO k hk
        refine sim_L (gf8 h.1.1) (sim_L (gf8 h.1.1) ?_)
        rw [c1, g82', show q + (n : Int) - q = n by omega, w32_n (by omega)]
        by_cases h9 : (n : Int) ≤ 9
        · rw [if_pos h9, if_pos h9, Option.bind_some]
          refine sim_some ⟨rfl, sO', ?_, ?_, Or.inl ⟨g', rfl, gO', ?_⟩⟩
          · show m.1 3 ≤ s' 5; rw [s5']; exact q1
          · show s' 5 ≤ _; rw [s5']; exact q2
          · show TKR g' s' (m.1 2)
            unfold TKR
            rw [s5', c2, g82', c1]
            exact ⟨rfl, rfl, by omega, by omega, c3, Or.inr ⟨by omega, Or.inr (Or.inl ⟨g81', s4', c4, c5, c6⟩)⟩⟩
        · rw [if_neg h9, if_neg h9]
          obtain ⟨u', e, hf⟩ := c_flt (α := Unit) (G := G) (u := rI t r g') (r := r) (K := 1) (P := q) hG hr h.1.1 (by rw [rI_I]; exact g82')
          refine sim_L_eq e ?_
          rw [Option.bind_some, ms_e, Option.bind_some]
          have k5 : (va_up s' 4 5) 5 = q := by rw [up_o (by decide)]; exact s5'
          refine sim_some ⟨rfl, fun k hk => by show (va_up s' 4 5) k = _; rw [up_o (by omega)]; exact sO' k hk, ?_, ?_, Or.inr ⟨g', u', rfl, gO', ?_, ?_, ?_⟩⟩
          · show m.1 3 ≤ (va_up s' 4 5) 5; rw [k5]; exact q1
          · show (va_up s' 4 5) 5 ≤ _; rw [k5]; exact q2
          · show FLT (rI t r g') (zN t) 1 ((va_up s' 4 5) 5) u'; rw [k5]; exact hf
          · exact up_s (f := s') (k := 4) (v := 5)
          · show (va_up s' 4 5) 5 < _; rw [k5]; exact hqs
      · -- a sign
        rw [decide_eq_false hD]
        refine sim_posL rfl (sim_posR rfl (sim_L (ztg_e (e8 g1)) ?_))
        obtain ⟨a, b, e1, e2, f1, f2, hk⟩ := lex_sign h hG hr (g := g1) (s := s1) (by omega) hqs rfl hL hD s2 g80 g82 s3 s5
        rw [e1, e2, Option.bind_some]
        have b5 : b.1 5 = q := by rw [f2 5 (by decide) (by decide) (by decide)]; exact s5
        rcases hk with ⟨g', rfl, k1, k2, k3, k4, k5, k6, k7⟩ | ⟨g', u', rfl, k1, k2, k3⟩
        · rw [bdU_z]
          refine sim_some ⟨f1, fun k hk => by rw [f2 k (by omega) (by omega) (by omega)]; exact sO k hk, by rw [b5]; exact q1, by rw [b5]; exact q2, Or.inl ⟨g', rfl, fun k hk => by rw [k1 k (by omega) (by omega) (by omega)]; exact gO k hk, ?_⟩⟩
          unfold TKR
          rw [b5, k1 282 (by decide) (by decide) (by decide), g82]
          exact ⟨rfl, k2, by omega, by omega, k4, Or.inr ⟨k3, Or.inr (Or.inr (Or.inl ⟨k5, k6, k7⟩))⟩⟩
        · rw [xt_tel k2.1]
          exact sim_some ⟨f1, fun k hk => by rw [f2 k (by omega) (by omega) (by omega)]; exact sO k hk, by rw [b5]; exact q1, by rw [b5]; exact q2, Or.inr ⟨g', u', rfl, fun k hk => by rw [k1 k (by omega) (by omega) (by omega)]; exact gO k hk, by rw [b5]; exact k2, k3, by rw [b5]; exact hqs⟩⟩
  · -- the end
    have hqe : q = m.1 2 := by
      refine Classical.byContradiction fun z => hneg ?_
      unfold oc
      rw [if_neg (by omega)]
      exact (and255 _).1
    rw [Option.bind_some, ms_e]
    refine sim_L (pf8 h.1.1 h.1.2.1) (sim_some ?_)
    have k5 : (va_up s1 4 0) 5 = q := by rw [up_o (by decide)]; exact s5
    have k3 : (va_up s1 4 0) 3 = q := by rw [up_o (by decide)]; exact s3
    refine ⟨rfl, fun k hk => by show (va_up s1 4 0) k = _; rw [up_o (by omega)]; exact sO k hk, ?_, ?_, Or.inl ⟨va_up g1 281 0, rfl, fun k hk => by rw [up_o (by omega)]; exact gO k hk, ?_⟩⟩
    · show m.1 3 ≤ (va_up s1 4 0) 5; rw [k5]; exact q1
    · show (va_up s1 4 0) 5 ≤ _; rw [k5]; exact q2
    · show TKR (va_up g1 281 0) (va_up s1 4 0) (m.1 2)
      unfold TKR
      rw [up_o (show 282 ≠ 281 by decide), up_o (show 280 ≠ 281 by decide), up_s]
      rw [k5, k3, up_s, g82, g80]
      exact ⟨rfl, rfl, by omega, by omega, q2, Or.inl ⟨rfl, rfl, hqe⟩⟩
