/-! THE READER: tokens -/
/-- a Fault that was thrown -/
def FLT (u : Sg) (e : Nat) (K P : Int) (u' : Sg) : Prop := zT u' e = 9 ∧ zI u' e 326 = K ∧ zI u' e 327 = P ∧ e = zN u ∧ zN u' = zN u + 1 ∧ gro u u' ∧ ∀ a, a < zN u → sam u u' a
theorem c_flt {α : Type} {G : CG} {u : Sg} {r : Nat} {K P : Int} (hG : G0 G ≤ zN u) (hr : r < zN u) (h8 : zT u r = 8) (hP : zI u r 282 = P) : ∃ u', (bdU (zNew u 9 8) fun q => (gfI q.2 8 282 (some r)).bind fun x => (f8_init G (some q.1) K x q.2).bind fun u4 => (xth q.1 u4 : Option (((Nat ⊕ α) × Sg) × Nat × Nat))) = some ((.inl (zN u), u'), 1, 8) ∧ FLT u (zN u) K P u' := by
  have T : zT (znew u 9 0) (zN u) = 9 := by rw [znew_T, if_pos rfl]
  have R : zR (znew u 9 0) (zN u) 324 = none := by rw [znew_R, if_pos rfl]
  have T8 : zT (znew u 9 0) r = 8 := by rw [znew_T, if_neg (by omega)]; exact h8
  have I8 : zI (znew u 9 0) r 282 = P := by rw [znew_I, if_neg (by omega)]; exact hP
  obtain ⟨u2, hu2⟩ : ∃ u2, u2 = zsR (zsR (zsR (znew u 9 0) (zN u) 320 (some (zN u))) (zN u) 321 (G.2.2.2.2 9)) (zN u) 322 (G.2.2.2.2 10) := ⟨_, rfl⟩
  have e2 : fltI G (znew u 9 0) (zN u) = some u2 := by unfold fltI; rw [if_pos ⟨T, hG, R⟩, hu2]
  have T2 : zT u2 (zN u) = 9 := by rw [hu2]; exact T
  refine ⟨zsI (zsI u2 (zN u) 326 K) (zN u) 327 P, ?_, ?_, ?_, ?_, rfl, ?_, ?_, fun a ha => ?_⟩
  · unfold bdU zNew
    rw [Option.bind_some]
    dsimp only
    rw [gfI_v T8 I8, Option.bind_some]
    unfold f8_init
    rw [Option.bind_some, e2, Option.bind_some, pfI_e T2 hG, Option.bind_some, pfI_e (show zT (zsI u2 (zN u) 326 K) (zN u) = 9 from T2) hG, Option.bind_some, Option.bind_some]
    unfold xth
    rw [if_pos (show zT (zsI (zsI u2 (zN u) 326 K) (zN u) 327 P) (zN u) = 9 from T2)]
    rfl
  · exact T2
  · rw [zsI_I, if_neg (fun z => absurd z.2 (by decide)), zsI_I, if_pos ⟨rfl, rfl⟩]
  · rw [zsI_I, if_pos ⟨rfl, rfl⟩]
  · show zN u2 = _
    rw [hu2]; rfl
  · refine ⟨?_, fun x hx => ⟨?_, ?_⟩⟩
    · show zN u ≤ zN u2
      rw [hu2]; show zN u ≤ zN u + 1; omega
    · show zT u2 x = _
      rw [hu2]; show zT (znew u 9 0) x = _; rw [znew_T, if_neg (by omega)]
    · show zL u2 x = _
      rw [hu2]; show zL (znew u 9 0) x = _; rw [znew_L, if_neg (by omega)]
  · have hne : a ≠ zN u := by omega
    refine sam_zsI (sam_zsI ?_ hne) hne
    rw [hu2]
    exact sam_zsR (sam_zsR (sam_zsR (sam_znew sam_rf hne) hne) hne) hne
/-- the signs -/
def sgC : Nat → Int := fun k => match k with
  | 0 => 61 | 1 => 60 | 2 => 62 | 3 => 15421 | 4 => 15933 | 5 => 15422 | 6 => 59 | 7 => 44 | 8 => 40 | _ => 41
/-- the token at hand, on both sides -/
def TKR (g s : Nat → Int) (ts : Int) : Prop := g 282 = s 5 ∧ g 280 = s 3 ∧ 0 ≤ s 5 ∧ s 5 ≤ s 3 ∧ s 3 ≤ ts ∧ ((g 281 = 0 ∧ s 4 = 0 ∧ s 5 = ts) ∨ (s 5 < s 3 ∧ ((g 281 = 1 ∧ s 4 = 1 ∧ NM (g 283) (s 6)) ∨ (g 281 = 2 ∧ s 4 = 2 ∧ g 284 = s 7 ∧ 0 ≤ s 7 ∧ s 7 ≤ 999999999) ∨ (g 281 = 3 ∧ s 4 = 3 ∧ ∃ k : Nat, k < 10 ∧ s 7 = (k : Int) ∧ g 285 = sgC k) ∨ (g 281 = 4 ∧ s 4 = 4 ∧ ∃ k : Nat, k < 29 ∧ s 7 = (k : Int) ∧ g 283 = (enc 256 (wdC k) : Nat)))))
theorem enc_snoc (b : Nat) (cs : List Nat) (c : Nat) : enc b (cs ++ [c]) = enc b cs * b + c := by unfold enc; rw [List.foldl_append]; rfl
/-- a name is read -/
theorem lex_name {G : CG} {L : Ly} {t : Sg} {m : Mu} {r : Nat} (h : TX G L t m r) {g0 s0 : Nat → Int} {q0 : Int} (hq : 0 ≤ q0) (hq2 : q0 ≤ m.1 2) (e2 : s0 2 = m.1 2) (h280 : g0 280 = q0) (h3 : s0 3 = q0) (h283 : g0 283 = 0) (h6 : s0 6 = 0) : sim (f7_next_l46 G (some r) NN (rI t r g0)) (m5_nextName_l12 NN 0 (s0, m.2)) (fun a b => ∃ (g s : Nat → Int) (cs : List Nat), a = (rI t r g, 0, 0) ∧ b = ((cs.length : Int), (s, m.2)) ∧ (∀ c ∈ cs, chr c) ∧ g 280 = q0 + cs.length ∧ s 3 = q0 + cs.length ∧ q0 + cs.length ≤ m.1 2 ∧ (cs.length ≤ 8 → g 283 = (enc 256 cs : Nat) ∧ s 6 = (enc 128 cs : Nat)) ∧ (∀ k, k ≠ 280 → k ≠ 283 → g k = g0 k) ∧ (∀ k, k ≠ 3 → k ≠ 6 → s k = s0 k) ∧ ¬ isL (oc m (q0 + cs.length)) ∧ ¬ isD (oc m (q0 + cs.length))) := by
  have b34 := h.2.1.2.2
  have key := sim_loop (fun n (g : (Nat → Int) × List Nat) => f7_next_l46 G (some r) n (rI t r g.1)) (fun n (w : (Nat → Int) × List Nat) => m5_nextName_l12 n (w.2.length : Int) (w.1, m.2)) (fun a _ => (m.1 2 - a.1 280).toNat) (fun a b => a.2 = b.2 ∧ (∀ c ∈ a.2, chr c) ∧ a.1 280 = q0 + a.2.length ∧ b.1 3 = q0 + a.2.length ∧ q0 + a.2.length ≤ m.1 2 ∧ (a.2.length ≤ 8 → a.1 283 = (enc 256 a.2 : Nat) ∧ b.1 6 = (enc 128 a.2 : Nat)) ∧ (∀ k, k ≠ 280 → k ≠ 283 → a.1 k = g0 k) ∧ (∀ k, k ≠ 3 → k ≠ 6 → b.1 k = s0 k)) (fun a b => ∃ (g s : Nat → Int) (cs : List Nat), a = (rI t r g, 0, 0) ∧ b = ((cs.length : Int), (s, m.2)) ∧ (∀ c ∈ cs, chr c) ∧ g 280 = q0 + cs.length ∧ s 3 = q0 + cs.length ∧ q0 + cs.length ≤ m.1 2 ∧ (cs.length ≤ 8 → g 283 = (enc 256 cs : Nat) ∧ s 6 = (enc 128 cs : Nat)) ∧ (∀ k, k ≠ 280 → k ≠ 283 → g k = g0 k) ∧ (∀ k, k ≠ 3 → k ≠ 6 → s k = s0 k) ∧ ¬ isL (oc m (q0 + cs.length)) ∧ ¬ isD (oc m (q0 + cs.length))) (by
    rintro n k ⟨g, cs⟩ ⟨s, cs'⟩ ⟨hcs, hc, i1, i2, i3, i4, i5, i6⟩ ih
    dsimp only at hcs hc i1 i2 i3 i4 i5 i6 ⊢
    subst hcs
    show sim (f7_next_l46 G (some r) (n + 1) (rI t r g)) (m5_nextName_l12 (k + 1) (cs.length : Int) (s, m.2)) _
    unfold f7_next_l46 m5_nextName_l12
    have e8 : zT (rI t r g) r = 8 := h.1.1
    have s2 : s 2 = m.1 2 := by rw [i6 2 (by decide) (by decide)]; exact e2
    have ho : ∀ i, oc (s, m.2) i = oc m i := fun i => oc_cg (m := m) (m' := (s, m.2)) s2 rfl i
    have mo : m5_octet (q0 + cs.length) (s, m.2) = some (oc m (q0 + cs.length)) := by rw [m_oct (m := (s, m.2)) (by show 0 ≤ s 2 ∧ s 2 ≤ 4000; rw [s2]; exact ⟨b34.1, b34.2.1⟩) (by omega) (by omega), ho]
    have co : f7_octet G (some r) (q0 + cs.length) (rI t r g) = some (oc m (q0 + cs.length)) := c_oct h (by omega) (by omega)
    have obd := oc_bd m (q0 + cs.length)
    -- a byte more
    have more : (isL (oc m (q0 + cs.length)) ∨ isD (oc m (q0 + cs.length))) → sim (f7_next_b76 G (f7_next_l46 G (some r) n) (some r) (rI t r g)) (m5_nextName_b40 (m5_nextName_l12 k) (cs.length : Int) (s, m.2)) (fun a b => ∃ (g s : Nat → Int) (cs : List Nat), a = (rI t r g, 0, 0) ∧ b = ((cs.length : Int), (s, m.2)) ∧ (∀ c ∈ cs, chr c) ∧ g 280 = q0 + cs.length ∧ s 3 = q0 + cs.length ∧ q0 + cs.length ≤ m.1 2 ∧ (cs.length ≤ 8 → g 283 = (enc 256 cs : Nat) ∧ s 6 = (enc 128 cs : Nat)) ∧ (∀ k, k ≠ 280 → k ≠ 283 → g k = g0 k) ∧ (∀ k, k ≠ 3 → k ≠ 6 → s k = s0 k) ∧ ¬ isL (oc m (q0 + cs.length)) ∧ ¬ isD (oc m (q0 + cs.length))) := by
      intro hld
      have hin := oc_in (m := m) (i := q0 + cs.length) (by rcases hld with z | z <;> have := z.1 <;> omega)
      obtain ⟨c, hcc⟩ : ∃ c : Nat, oc m (q0 + cs.length) = (c : Int) := ⟨(oc m (q0 + cs.length)).toNat, by rcases hld with z | z <;> have := z.1 <;> omega⟩
      have hchr : chr c := by
        unfold chr
        rcases hld with z | z
        · left; have := z.1; have := z.2; omega
        · right; have := z.1; have := z.2; omega
      have hc' : ∀ x ∈ cs ++ [c], chr x := fun x hx => by
        rcases List.mem_append.mp hx with z | z
        · exact hc x z
        · rw [List.mem_singleton.mp z]; exact hchr
      have hlen : (cs ++ [c]).length = cs.length + 1 := by rw [List.length_append]; rfl
      unfold f7_next_b76
      refine sim_L (gf8 h.1.1) (sim_L (gf8 h.1.1) (sim_L (pf8 h.1.1 h.1.2.1) (sim_L (ztg_e (show zT (rI t r _) r = 8 from h.1.1)) ?_)))
      rw [i1]
      refine sim_L (c_oct h (by omega) (by omega)) (sim_L (pf8 h.1.1 h.1.2.1) ?_)
      rw [hcc, w32_n (by omega)]
      -- the twin
      obtain ⟨s', hs', hm⟩ : ∃ s' : Nat → Int, ((cs ++ [c]).length ≤ 8 → s' 6 = (enc 128 (cs ++ [c]) : Nat)) ∧ (s' 3 = q0 + (cs ++ [c]).length ∧ (∀ k, k ≠ 3 → k ≠ 6 → s' k = s0 k)) ∧ m5_nextName_b40 (m5_nextName_l12 k) (cs.length : Int) (s, m.2) = m5_nextName_l12 k ((cs ++ [c]).length : Int) (s', m.2) := by
        unfold m5_nextName_b40 m5_nextName_b67
        rw [w32_n (by omega), hlen]
        by_cases h8 : 8 ≤ (cs.length : Int)
        · rw [if_pos h8, Option.bind_some, ms_e]
          refine ⟨va_up s 3 (s 3 + 1), fun z => by omega, ⟨by rw [up_s, i2]; omega, fun k k1 k2 => by rw [up_o k1]; exact i6 k k1 k2⟩, ?_⟩
          rw [Int.natCast_add]; rfl
        · rw [if_neg h8]
          show ∃ s', _ ∧ _ ∧ ((m5_octet (s 3) (s, m.2)).bind _) = _
          rw [i2, mo, Option.bind_some, Option.bind_some, ms_e, Option.bind_some, ms_e, hcc, w32_n (by omega)]
          refine ⟨va_up (va_up s 6 (or64 (shl64 (s 6) 7) (c : Int))) 3 (va_up s 6 (or64 (shl64 (s 6) 7) (c : Int)) 3 + 1), fun z => ?_, ⟨by rw [up_s, up_o (by decide), i2]; omega, fun k k1 k2 => by rw [up_o k1, up_o k2]; exact i6 k k1 k2⟩, ?_⟩
          · rw [up_o (by decide), up_s, (i4 (by omega)).2]
            have hb := (enc_lt hc' (by omega)).2
            rw [enc_snoc] at hb ⊢
            have := chr_bd hchr
            exact name_up (k := 7) (by omega) (by omega) (by omega)
          · rw [Int.natCast_add]; rfl
      rw [hm.2]
      refine ih (va_up (va_up g 280 (q0 + cs.length + 1)) 283 (or64 (shl64 (g 283) 8) (c : Int)), cs ++ [c]) (s', cs ++ [c]) ⟨rfl, hc', ?_, hm.1.1, by dsimp only; rw [hlen]; omega, fun z => ⟨?_, hs' z⟩, fun k k1 k2 => ?_, hm.1.2⟩ ?_
      · dsimp only; rw [up_o (by decide), up_s, hlen]; omega
      · dsimp only at z ⊢
        rw [up_s, (i4 (by omega)).1]
        have hb := (enc_lt hc' z).1
        rw [enc_snoc] at hb ⊢
        have := chr_bd hchr
        exact name_up (k := 8) (by omega) (by omega) (by omega)
      · dsimp only; rw [up_o k2, up_o k1]; exact i5 k k1 k2
      · dsimp only; rw [up_o (by decide), up_s, i1]; omega
    refine sim_L (gf8 h.1.1) ?_
    rw [i1]
    refine sim_L (ztg_e e8) (sim_L co (sim_L (ztg_e e8) (sim_L (c_let (oc_w _ _)) ?_)))
    show sim _ ((m5_octet (s 3) (s, m.2)).bind _) _
    rw [i2]
    refine sim_R mo (sim_R (m_let (oc_w _ _)) ?_)
    rw [w32_b2i]
    by_cases hL : isL (oc m (q0 + cs.length))
    · rw [decide_eq_true hL]
      exact sim_negL (by decide) (sim_negR (by decide) (more (Or.inl hL)))
    · rw [decide_eq_false hL]
      refine sim_posL rfl (sim_posR rfl ?_)
      refine sim_L (gf8 h.1.1) ?_
      rw [i1]
      refine sim_L (ztg_e e8) (sim_L co (sim_L (ztg_e e8) (sim_L (c_fig (oc_w _ _)) ?_)))
      show sim _ ((m5_octet (s 3) (s, m.2)).bind _) _
      rw [i2]
      refine sim_R mo (sim_R (m_fig (oc_w _ _)) ?_)
      rw [w32_b2i]
      by_cases hD : isD (oc m (q0 + cs.length))
      · rw [decide_eq_true hD]
        exact sim_negL (by decide) (sim_negR (by decide) (more (Or.inr hD)))
      · rw [decide_eq_false hD]
        exact sim_posL rfl (sim_posR rfl (sim_some ⟨g, s, cs, rfl, rfl, hc, i1, i2, i3, i4, i5, i6, hL, hD⟩))) NN NN (g0, []) (s0, []) ⟨rfl, fun c hc => (by cases hc), by dsimp only; rw [h280]; simp, by dsimp only; rw [h3]; simp, by simp; exact hq2, fun _ => ⟨h283, h6⟩, fun _ _ _ => rfl, fun _ _ _ => rfl⟩ (NN_gt (by dsimp only; rw [h280]; omega)) (NN_gt (by dsimp only; rw [h280]; omega))
  exact key
/-- figures are read -/
theorem lex_num {G : CG} {L : Ly} {t : Sg} {m : Mu} {r : Nat} (h : TX G L t m r) {g0 s0 : Nat → Int} {q0 : Int} (hq : 0 ≤ q0) (hq2 : q0 ≤ m.1 2) (e2 : s0 2 = m.1 2) (h280 : g0 280 = q0) (h282 : g0 282 = q0) (h3 : s0 3 = q0) (h284 : g0 284 = 0) (h7 : s0 7 = 0) : sim (f7_next_l178 G (some r) NN (rI t r g0)) (m5_nextNumber_l12 NN 0 (s0, m.2)) (fun a b => ∃ (g s : Nat → Int) (n : Nat), a = (rI t r g, 0, 0) ∧ b = ((n : Int), (s, m.2)) ∧ g 280 = q0 + n ∧ s 3 = q0 + n ∧ q0 + n ≤ m.1 2 ∧ g 284 = s 7 ∧ 0 ≤ s 7 ∧ s 7 ≤ 999999999 ∧ (∀ k, k ≠ 280 → k ≠ 284 → g k = g0 k) ∧ (∀ k, k ≠ 3 → k ≠ 7 → s k = s0 k) ∧ ¬ isD (oc m (q0 + n))) := by
  have b34 := h.2.1.2.2
  have key := sim_loop (fun n (g : (Nat → Int) × Nat) => f7_next_l178 G (some r) n (rI t r g.1)) (fun n (w : (Nat → Int) × Nat) => m5_nextNumber_l12 n (w.2 : Int) (w.1, m.2)) (fun a _ => (m.1 2 - a.1 280).toNat) (fun a b => a.2 = b.2 ∧ a.1 280 = q0 + a.2 ∧ b.1 3 = q0 + a.2 ∧ q0 + a.2 ≤ m.1 2 ∧ a.1 284 = b.1 7 ∧ 0 ≤ b.1 7 ∧ b.1 7 < 10 ^ (min a.2 9) ∧ (∀ k, k ≠ 280 → k ≠ 284 → a.1 k = g0 k) ∧ (∀ k, k ≠ 3 → k ≠ 7 → b.1 k = s0 k)) (fun a b => ∃ (g s : Nat → Int) (n : Nat), a = (rI t r g, 0, 0) ∧ b = ((n : Int), (s, m.2)) ∧ g 280 = q0 + n ∧ s 3 = q0 + n ∧ q0 + n ≤ m.1 2 ∧ g 284 = s 7 ∧ 0 ≤ s 7 ∧ s 7 ≤ 999999999 ∧ (∀ k, k ≠ 280 → k ≠ 284 → g k = g0 k) ∧ (∀ k, k ≠ 3 → k ≠ 7 → s k = s0 k) ∧ ¬ isD (oc m (q0 + n))) (by
    rintro n k ⟨g, c⟩ ⟨s, c'⟩ ⟨hcc, i1, i2, i3, i4, i5, i6, i7, i8⟩ ih
    dsimp only at hcc i1 i2 i3 i4 i5 i6 i7 i8 ⊢
    subst hcc
    show sim (f7_next_l178 G (some r) (n + 1) (rI t r g)) (m5_nextNumber_l12 (k + 1) (c : Int) (s, m.2)) _
    unfold f7_next_l178 m5_nextNumber_l12
    have e8 : zT (rI t r g) r = 8 := h.1.1
    have s2 : s 2 = m.1 2 := by rw [i8 2 (by decide) (by decide)]; exact e2
    have ho : ∀ i, oc (s, m.2) i = oc m i := fun i => oc_cg (m := m) (m' := (s, m.2)) s2 rfl i
    have mo : m5_octet (q0 + c) (s, m.2) = some (oc m (q0 + c)) := by rw [m_oct (m := (s, m.2)) (by show 0 ≤ s 2 ∧ s 2 ≤ 4000; rw [s2]; exact ⟨b34.1, b34.2.1⟩) (by omega) (by omega), ho]
    have co : f7_octet G (some r) (q0 + c) (rI t r g) = some (oc m (q0 + c)) := c_oct h (by omega) (by omega)
    have g82 : g 282 = q0 := by rw [i7 282 (by decide) (by decide)]; exact h282
    refine sim_L (gf8 h.1.1) ?_
    rw [i1]
    refine sim_L (ztg_e e8) (sim_L co (sim_L (ztg_e e8) (sim_L (c_fig (oc_w _ _)) ?_)))
    show sim _ ((m5_octet (s 3) (s, m.2)).bind _) _
    rw [i2]
    refine sim_R mo (sim_R (m_fig (oc_w _ _)) ?_)
    rw [w32_b2i]
    by_cases hD : isD (oc m (q0 + c))
    · rw [decide_eq_true hD]
      refine sim_negL (by decide) (sim_negR (by decide) ?_)
      have hin := oc_in (m := m) (i := q0 + c) (by have := hD.1; omega)
      refine sim_L (gf8 h.1.1) (sim_L (gf8 h.1.1) ?_)
      rw [i1, g82, show q0 + (c : Int) - q0 = (c : Int) by omega, w32_n (by omega)]
      refine sim_ite Iff.rfl (fun h9 => ?_) (fun h9 => ?_)
      · unfold f7_next_b234 m5_nextNumber_b55
        refine sim_L (gf8 h.1.1) (sim_L (pf8 h.1.1 h.1.2.1) (sim_L (gf8 h.1.1) (sim_L (pf8 h.1.1 h.1.2.1) (sim_S ?_))))
        rw [up_id rfl, ms_e, i1]
        refine ih (va_up g 280 (q0 + c + 1), c + 1) (va_up s 3 (s 3 + 1), c + 1) ⟨rfl, by dsimp only; rw [up_s]; omega, by dsimp only; rw [up_s, i2]; omega, by dsimp only; omega, by dsimp only; rw [up_o (by decide), up_o (by decide)]; exact i4, by dsimp only; rw [up_o (by decide)]; exact i5, ?_, fun k k1 k2 => by dsimp only; rw [up_o k1]; exact i7 k k1 k2, fun k k1 k2 => by dsimp only; rw [up_o k1]; exact i8 k k1 k2⟩ (by dsimp only; rw [up_s, i1]; omega)
        dsimp only
        rw [up_o (by decide), show min (c + 1) 9 = min c 9 by omega]
        exact i6
      · refine sim_L (gf8 h.1.1) (sim_L (gf8 h.1.1) (sim_L (ztg_e e8) ?_))
        rw [i1]
        refine sim_L co ?_
        show sim _ ((m5_octet (s 3) (s, m.2)).bind _) _
        rw [i2]
        refine sim_R mo (sim_S ?_)
        unfold f7_next_b234 m5_nextNumber_b55
        refine sim_L (pf8 h.1.1 h.1.2.1) (sim_L (gf8 h.1.1) (sim_L (pf8 h.1.1 h.1.2.1) (sim_S ?_)))
        rw [ms_e, ms_e, up_o (show 280 ≠ 284 by decide), i1, i4]
        show sim _ (m5_nextNumber_l12 k ((c : Int) + 1) (va_up (va_up s 7 (s 7 * 10 + oc m (q0 + c) - 48)) 3 (va_up s 7 (s 7 * 10 + oc m (q0 + c) - 48) 3 + 1), m.2)) _
        rw [show (10 * s 7 + oc m (q0 + c) - 48) = s 7 * 10 + oc m (q0 + c) - 48 by omega]
        have d1 := hD.1
        have d2 := hD.2
        refine ih (va_up (va_up g 284 (s 7 * 10 + oc m (q0 + c) - 48)) 280 (q0 + c + 1), c + 1) (va_up (va_up s 7 (s 7 * 10 + oc m (q0 + c) - 48)) 3 (va_up s 7 (s 7 * 10 + oc m (q0 + c) - 48) 3 + 1), c + 1) ⟨rfl, by dsimp only; rw [up_s]; omega, by dsimp only; rw [up_s, up_o (by decide), i2]; omega, by dsimp only; omega, by dsimp only; rw [up_o (by decide), up_s, up_o (by decide), up_s], by dsimp only; rw [up_o (by decide), up_s]; omega, ?_, fun k k1 k2 => by dsimp only; rw [up_o k1, up_o k2]; exact i7 k k1 k2, fun k k1 k2 => by dsimp only; rw [up_o k1, up_o k2]; exact i8 k k1 k2⟩ (by dsimp only; rw [up_s, i1]; omega)
        dsimp only
        rw [up_o (by decide), up_s, show min (c + 1) 9 = min c 9 + 1 by omega, Int.pow_succ]
        omega
    · rw [decide_eq_false hD]
      refine sim_posL rfl (sim_posR rfl (sim_some ⟨g, s, c, rfl, rfl, i1, i2, i3, i4, i5, ?_, i7, i8, hD⟩))
      have : ∀ j : Nat, j ≤ 9 → (10 : Int) ^ j ≤ 1000000000 := by
        intro j hj
        rcases (show j = 0 ∨ j = 1 ∨ j = 2 ∨ j = 3 ∨ j = 4 ∨ j = 5 ∨ j = 6 ∨ j = 7 ∨ j = 8 ∨ j = 9 by omega) with rfl | rfl | rfl | rfl | rfl | rfl | rfl | rfl | rfl | rfl <;> decide
      have := this (min c 9) (by omega)
      omega) NN NN (g0, 0) (s0, 0) ⟨rfl, by dsimp only; rw [h280]; simp, by dsimp only; rw [h3]; simp, by simp; exact hq2, by dsimp only; rw [h284, h7], by dsimp only; rw [h7]; omega, by dsimp only; rw [h7]; decide, fun _ _ _ => rfl, fun _ _ _ => rfl⟩ (NN_gt (by dsimp only; rw [h280]; omega)) (NN_gt (by dsimp only; rw [h280]; omega))
  exact key
