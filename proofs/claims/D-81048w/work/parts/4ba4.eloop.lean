/-! ENDORSE: the loop over all items -/
def JE (T : Int) (r : Mu ⊕ Mu) : Prop := Sum.elim (Jt T) (Jt T) r
theorem JE_1 {T : Int} {q : Mu} (h : Jt T q) : pcO (some (Sum.inl q : Mu ⊕ Mu)) (JE T) := pcO_some h
theorem JE_2 {T : Int} {q : Mu} (h : Jt T q) : pcO (some (Sum.inr q : Mu ⊕ Mu)) (JE T) := pcO_some h
theorem J_b207 {T v x a b : Int} {kh : Mu → Option (Mu ⊕ Mu)} (hk : ∀ q, Jt T q → pcO (kh q) (JE T)) {m : Mu} (h : Jt T m) : pcO (m5_endorse_b207 kh v x a b m) (JE T) := by
  unfold m5_endorse_b207
  exact pcO_bind (J_mast h) (fun _ h1 => pcO_ite (fun _ => pcO_any (fun _ => pcO_ite (fun _ => pcO_bind (J_cannot h1) (fun _ h2 => hk _ h2)) (fun _ => pcO_bind (J_mast h1) (fun _ h2 => pcO_bind (J_readClause h2) (fun _ h3 => hk _ h3))))) (fun _ => pcO_bind (J_wantsSign h1) (fun _ h2 => hk _ h2)))
theorem J_b166 {T v x : Int} {kh : Mu → Option (Mu ⊕ Mu)} (hk : ∀ q, Jt T q → pcO (kh q) (JE T)) {m : Mu} (h : Jt T m) : pcO (m5_endorse_b166 kh v x m) (JE T) := by
  unfold m5_endorse_b166
  exact pcO_bind (J_wantsNumber h) (fun q hq => pcO_ite (fun _ => pcO_ite (fun _ => J_b207 hk hq) (fun _ => J_b207 hk hq)) (fun _ => JE_1 hq))
theorem J_b161 {T v x : Int} {kh : Mu → Option (Mu ⊕ Mu)} (hk : ∀ q, Jt T q → pcO (kh q) (JE T)) {m : Mu} (h : Jt T m) : pcO (m5_endorse_b161 kh v x m) (JE T) := by
  unfold m5_endorse_b161
  exact pcO_bind (J_wrong h) (fun _ h1 => J_b166 hk h1)
theorem J_b121 {T v x s : Int} {kh : Mu → Option (Mu ⊕ Mu)} (hk : ∀ q, Jt T q → pcO (kh q) (JE T)) {m : Mu} (h : Jt T m) : pcO (m5_endorse_b121 kh v x s m) (JE T) := by
  unfold m5_endorse_b121
  exact pcO_ite (fun _ => pcO_ite (fun _ => J_b161 hk h) (fun _ => pcO_any (fun _ => pcO_ite (fun _ => J_b161 hk h) (fun _ => pcO_any (fun _ => pcO_ite (fun _ => J_b166 hk h) (fun _ => J_b161 hk h)))))) (fun _ => J_b166 hk h)
theorem J_b94 {T v : Int} {kh : Mu → Option (Mu ⊕ Mu)} (hk : ∀ q, Jt T q → pcO (kh q) (JE T)) {m : Mu} (h : Jt T m) : pcO (m5_endorse_b94 kh v m) (JE T) := by
  unfold m5_endorse_b94
  exact pcO_any (fun _ => pcO_bind (J_next h) (fun _ h1 => pcO_ite (fun _ => J_b121 hk h1) (fun _ => J_b121 hk h1)))
theorem J_endl62 {T v : Int} : ∀ (n : Nat) (m : Mu), Jt T m → pcO (m5_endorse_l62 v n m) (JE T) := by
  intro n
  induction n with
  | zero => intro m h; exact pcO_none
  | succ n ih =>
    intro m h
    unfold m5_endorse_l62
    exact pcO_ite (fun _ => JE_2 h) (fun _ => pcO_ite (fun _ => pcO_any (fun _ => pcO_ite (fun _ => pcO_any (fun _ => pcO_ite (fun _ => pcO_any (fun _ => pcO_ite (fun _ => pcO_bind (J_cannot h) (fun _ h1 => ih _ h1)) (fun _ => pcO_bind (J_mast h) (fun _ h1 => pcO_bind (J_readClause h1) (fun _ h2 => ih _ h2))))) (fun _ => J_b94 ih h))) (fun _ => J_b94 ih h))) (fun _ => JE_2 h))
/-- the twin's loop stops at a fault -/
theorem l62_f {v K : Int} {g : Nat} {q : Mu} (hK : 1 ≤ K ∧ K ≤ 6) (hq : q.1 8 = K) : m5_endorse_l62 v (g + 1) q = some (.inr q) := by
  rw [m5_endorse_l62.eq_2]
  by_cases y : w32 (q.1 4) = 0
  · rw [if_pos y]
  · rw [if_neg y, hq, w32_id (x := K) (by omega) (by omega), if_neg (by omega)]
theorem l62_end {v K P : Int} {g : Nat} {m q : Mu} (hK : 1 ≤ K ∧ K ≤ 6) (h : MFe m q K P) : ∃ m', m5_endorse_l62 v (g + 2) q = some (.inr m') ∧ m'.1 8 = K ∧ m'.1 9 = P ∧ MIe m m' := by
  obtain ⟨h | ⟨rfl, h2, h3, h4⟩, hM⟩ := h
  · exact ⟨q, l62_f hK h.1, h.1, h.2, hM⟩
  · obtain ⟨m', em, hm⟩ := m_cannot h2 (by rw [h3]; decide)
    rw [if_pos h3, h4] at hm
    refine ⟨m', ?_, hm.1, hm.2.1, MIe_tr hM (MIe_7 hm.2.2)⟩
    rw [m5_endorse_l62.eq_2, h3, if_neg (by decide), h2, if_pos (by decide), m_isWq 24 (by decide) (by rw [h3]; decide) (fun z => by omega), Option.bind_some, decide_eq_false (by omega), if_pos (by rfl), m_isWq 25 (by decide) (by rw [h3]; decide) (fun z => by omega), Option.bind_some, decide_eq_false (by omega), if_pos (by rfl)]
    unfold m5_isClause
    rw [h3, if_neg (by decide), Option.bind_some, if_pos (by decide), em, Option.bind_some]
    exact l62_f (by omega) hm.1
/-- what all items come to -/
def ELR (G : CG) (L : Ly) (r a v : Nat) (W : Wv) (oel : Nat → Nat) (kl kb ch ml N2 N3 : Nat) (t2 : Sg) (t : Sg) (m : Mu) (X : Option (((Nat × Sg) ⊕ ((Sg) ⊕ (Sg) ⊕ (Sg) ⊕ (Sg))) × Nat × Nat)) (Y : Option (Mu ⊕ Mu)) : Prop :=
  (∃ (t' : Sg) (cc nn : Nat) (m' : Mu) (κ' : Nat → Nat) (mb' : Nat) (ec' : Nat → Nat) (nc' : Nat), (∀ K0, XS G r K0 X = (K0 t').map fun r => (r.1, r.2.1 + cc, r.2.2 + nn)) ∧ Y = some (.inr m') ∧ EF G L r a v W oel kl kb ch ml N2 N3 t2 κ' mb' ec' t' m' nc' ∧ m'.1 4 = 0 ∧ MIe m m' ∧ FRo N2 t t' ∧ m.1 5 ≤ m'.1 5 ∧ (cc : Int) ≤ 20 * (m'.1 5 - m.1 5) ∧ (nn : Int) ≤ 600 * (m'.1 5 - m.1 5)) ∨
  (∃ (e : Nat) (t' : Sg) (cc nn : Nat) (K P : Int) (m' : Mu), (∀ K0, XS G r K0 X = some ((.inl e, t'), cc, nn)) ∧ THI N2 t (m.1 5) e t' cc nn K P ∧ (Y = some (.inl m') ∨ Y = some (.inr m')) ∧ m'.1 8 = K ∧ m'.1 9 = P ∧ MIe m m')
theorem eloop {G : CG} {L : Ly} {r a v : Nat} {W : Wv} {oel : Nat → Nat} {kl kb ch ml N2 N3 : Nat} {t2 : Sg} (hC : CTE G L r a v W N2 t2) : ∀ (fuel f2 : Nat) (κ : Nat → Nat) (mb : Nat) (ec : Nat → Nat) (t : Sg) (m : Mu) (nc : Nat), EF G L r a v W oel kl kb ch ml N2 N3 t2 κ mb ec t m nc → 600 - m.1 5 < (fuel : Int) → 600 - m.1 5 < (f2 : Int) → ELR G L r a v W oel kl kb ch ml N2 N3 t2 t m (f7_endorsement_l26 G (some r) (some kl) (some ch) (some ml) fuel t) (m5_endorse_l62 v f2 m) := by
  intro fuel
  induction fuel with
  | zero =>
    intro f2 κ mb ec t m nc h hf hf2
    have := h.1.1.1.1.2.2.2.1.2.2
    have := h.1.1.1.1.2.2.1.2.2.2
    omega
  | succ fuel ih =>
    intro f2 κ mb ec t m nc h hf hf2
    have hR := h.1.1.1.1
    have hts := hR.2.2.2.1.2.2
    have htk := hR.2.2.1.2.2.2
    obtain ⟨f2, rfl⟩ : ∃ g, f2 = g + 1 := ⟨f2 - 1, by omega⟩
    obtain ⟨k1, k2⟩ := tk_w hR.2.2.1
    have h8 : m.1 8 = 0 := hR.2.2.2.2.2
    have ez : ztg t 8 (some r) = some r := ztg_e hR.1.1.1
    rw [f7_endorsement_l26.eq_2, m5_endorse_l62.eq_2, gfI_v hR.1.1.1 k1.2.2.2, Option.bind_some, k1.2.2.1]
    by_cases z : m.1 4 = 0
    · rw [if_pos z, if_pos z]
      refine Or.inl ⟨t, 0, 0, m, κ, mb, ec, nc, fun K0 => ?_, rfl, h, z, MIe_rf, FRo_rf, Int.le_refl _, by omega, by omega⟩
      rw [XS_4]
      cases K0 t <;> rfl
    rw [if_neg z, if_neg z, h8, if_pos (show w32 0 = 0 from rfl), ez, Option.bind_some, c_is hR (j := 24) (by decide) (show (126943972911973 : Int) = (enc 256 (wdC 24) : Nat) by decide), Option.bind_some, Option.bind_some, c_isCl hR, Option.bind_some, Option.bind_some, c_is hR (j := 25) (by decide) (show (29676314707714404 : Int) = (enc 256 (wdC 25) : Nat) by decide), m_w7 hR 24 (by decide), m_w7 hR 25 (by decide), Option.bind_some, Option.bind_some, Option.bind_some, m_isCl hR, Option.bind_some, w32_b2i, w32_b2i, w32_b2i, w32_b2i]
    -- an item
    have item : ∀ XF YF, EIT G L r a v W oel kl kb ch ml N2 N3 t2 t m XF YF → ELR G L r a v W oel kl kb ch ml N2 N3 t2 t m (XF (f7_endorsement_l26 G (some r) (some kl) (some ch) (some ml) fuel)) (YF (m5_endorse_l62 v f2)) := fun XF YF hI => by
      rcases hI with ⟨t', cc, nn, m', κ', mb', ec', nc', e1, e2, e3, e4, e5, e6, e7, e8⟩ | ⟨e, t', cc, nn, K, P, m', e1, e2, e3, e4⟩
      · rw [e1, e2]
        have hR' := e3.1.1.1.1
        rcases ih f2 κ' mb' ec' t' m' nc' e3 (by omega) (by omega) with ⟨t3, cc2, nn2, m3, κ3, mb3, ec3, nc3, q1, q2, q3, q4, q5, q6, q7, q8, q9⟩ | ⟨e, t3, cc2, nn2, K, P, m3, q1, q2, q3, q4, q5, q6⟩
        · refine Or.inl ⟨t3, cc2 + cc, nn2 + nn, m3, κ3, mb3, ec3, nc3, fun K0 => ?_, q2, q3, q4, MIe_tr e4 q5, FRo_tr e5 q6, by omega, by omega, by omega⟩
          rw [XS_m, q1]
          cases K0 t3 with
          | none => rfl
          | some w =>
            obtain ⟨w, d, n⟩ := w
            show some (w, d + cc2 + cc, n + nn2 + nn) = some (w, d + (cc2 + cc), n + (nn2 + nn))
            rw [Nat.add_assoc, Nat.add_assoc]
        · obtain ⟨r1, r2, r3, r4, r5, r6, r7, r8⟩ := q2
          refine Or.inr ⟨e, t3, cc2 + cc, nn2 + nn, K, P, m3, fun K0 => by rw [XS_m, q1]; rfl, ⟨r1, r2, r3, r4, FRo_tr e5 r5, by omega, by omega, by omega⟩, q3, q4, q5, MIe_tr e4 q6⟩
      · have hK := e2.2.1.2
        rcases e4 with e4 | ⟨e4, e5⟩
        · rw [e4]
          have hP := e2.2.2.2.2.2.1
          obtain ⟨g, rfl⟩ : ∃ g, f2 = g + 2 := ⟨f2 - 2, by omega⟩
          obtain ⟨m3, y1, y2, y3, y4⟩ := l62_end (v := v) (g := g) hK e3
          exact Or.inr ⟨e, t', cc, nn, K, P, m3, fun K0 => e1 K0 _, e2, Or.inr y1, y2, y3, y4⟩
        · exact Or.inr ⟨e, t', cc, nn, K, P, m', fun K0 => e1 K0 _, e2, Or.inl (e5 _), e4.1, e4.2, e3.2⟩
    by_cases zc : m.1 4 = 4 ∧ 6 ≤ m.1 7 ∧ m.1 7 ≤ 8
    · obtain ⟨kd, hkd⟩ : ∃ kd : Nat, m.1 7 = 6 + (kd : Int) := ⟨(m.1 7 - 6).toNat, by omega⟩
      have := item _ _ (more7 hC h zc.1 (by omega) hkd)
      rw [if_pos zc, Option.bind_some, if_neg (show ¬ w32 1 = 0 by decide), if_neg (show ¬ w32 1 = 0 by decide), decide_eq_false (show ¬ (m.1 4 = 4 ∧ m.1 7 = 24) by omega), decide_eq_false (show ¬ (m.1 4 = 4 ∧ m.1 7 = 25) by omega), if_pos (show b2i false = 0 from rfl), if_pos (show b2i false = 0 from rfl)]
      rw [ez] at this
      exact this
    · rw [if_neg zc, Option.bind_some, if_pos (show w32 0 = 0 by decide), if_pos (show w32 0 = 0 by decide)]
      by_cases z24 : m.1 4 = 4 ∧ m.1 7 = 24
      · have := item _ _ (stead7 (b := true) hC h z24.1 (by rw [if_pos rfl]; exact z24.2))
        rw [decide_eq_true (show m.1 4 = 4 ∧ m.1 7 = ((24 : Nat) : Int) from z24), decide_eq_true z24, if_neg (show ¬ b2i true = 0 by decide), if_neg (show ¬ b2i true = 0 by decide)]
        exact this
      · rw [decide_eq_false (show ¬ (m.1 4 = 4 ∧ m.1 7 = ((24 : Nat) : Int)) from z24), decide_eq_false z24, if_pos (show b2i false = 0 from rfl), if_pos (show b2i false = 0 from rfl)]
        by_cases z25 : m.1 4 = 4 ∧ m.1 7 = 25
        · have := item _ _ (stead7 (b := false) hC h z25.1 (by rw [if_neg (by decide)]; exact z25.2))
          rw [decide_eq_true (show m.1 4 = 4 ∧ m.1 7 = ((25 : Nat) : Int) from z25), decide_eq_true z25, if_neg (show ¬ b2i true = 0 by decide), if_neg (show ¬ b2i true = 0 by decide)]
          exact this
        · rw [decide_eq_false (show ¬ (m.1 4 = 4 ∧ m.1 7 = ((25 : Nat) : Int)) from z25), decide_eq_false z25, if_pos (show b2i false = 0 from rfl), if_pos (show b2i false = 0 from rfl)]
          obtain ⟨m', em, hm⟩ := m_cannot h8 k1.2.2.1
          rw [if_neg (by omega)] at hm
          obtain ⟨t', w1, w2⟩ := XS_3 hR
          rw [em, Option.bind_some]
          obtain ⟨g, rfl⟩ : ∃ g, f2 = g + 1 := ⟨f2 - 1, by omega⟩
          have hN := h.2.1.1
          exact Or.inr ⟨zN t, t', 1, 8, 2, m.1 5, m', w1, THI_tr FRo_rf ⟨by have := hN.2.1; have := hN.2.2.1.2.1; have := hC.2.2.1.2; omega, hC.2.2.1.2⟩ (Int.le_refl _) w2 (by omega) (by omega), Or.inr (l62_f (by omega) hm.1), hm.1, hm.2.1, MIe_7 hm.2.2⟩
