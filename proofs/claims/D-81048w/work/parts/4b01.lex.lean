/-! THE READER: lexing -/
/-- the heap with the numbers of the object r replaced -/
def rI (t : Sg) (r : Nat) (f : Nat → Int) : Sg := (zT t, zL t, fun b j => if b = r then f j else zI t b j, zR t, zA t, zB t, zN t)
theorem rI_T {t : Sg} {r : Nat} {f : Nat → Int} : zT (rI t r f) = zT t := rfl
theorem rI_L {t : Sg} {r : Nat} {f : Nat → Int} : zL (rI t r f) = zL t := rfl
theorem rI_R {t : Sg} {r : Nat} {f : Nat → Int} : zR (rI t r f) = zR t := rfl
theorem rI_A {t : Sg} {r : Nat} {f : Nat → Int} : zA (rI t r f) = zA t := rfl
theorem rI_B {t : Sg} {r : Nat} {f : Nat → Int} : zB (rI t r f) = zB t := rfl
theorem rI_N {t : Sg} {r : Nat} {f : Nat → Int} : zN (rI t r f) = zN t := rfl
theorem rI_I {t : Sg} {r : Nat} {f : Nat → Int} : zI (rI t r f) r = f := by funext j; show (if r = r then f j else _) = _; rw [if_pos rfl]
theorem rI_o {t : Sg} {r b : Nat} {f : Nat → Int} (h : b ≠ r) : zI (rI t r f) b = zI t b := by funext j; show (if b = r then f j else zI t b j) = _; rw [if_neg h]
theorem rI_set {t : Sg} {r g : Nat} {f : Nat → Int} {v : Int} : zsI (rI t r f) r g v = rI t r (va_up f g v) := by
  unfold rI zsI
  refine Prod.ext rfl (Prod.ext rfl (Prod.ext ?_ rfl))
  funext b j
  show (if b = r ∧ j = g then v else if b = r then f j else zI t b j) = if b = r then va_up f g v j else zI t b j
  rw [va_up_e]
  by_cases h : b = r
  · simp [h]
  · simp [h]
theorem rI_id {t : Sg} {r : Nat} : rI t r (zI t r) = t := by
  unfold rI
  refine Prod.ext rfl (Prod.ext rfl (Prod.ext ?_ rfl))
  funext b j
  show (if b = r then zI t r j else zI t b j) = zI t b j
  by_cases h : b = r
  · rw [if_pos h, h]
  · rw [if_neg h]
theorem rI_rI {t : Sg} {r : Nat} {f g : Nat → Int} : rI (rI t r f) r g = rI t r g := by
  unfold rI
  refine Prod.ext rfl (Prod.ext rfl (Prod.ext ?_ rfl))
  funext b j
  show (if b = r then g j else if b = r then f j else zI t b j) = if b = r then g j else zI t b j
  by_cases h : b = r
  · rw [if_pos h, if_pos h]
  · rw [if_neg h, if_neg h, if_neg h]
theorem gf8 {t : Sg} {r g : Nat} {f : Nat → Int} (h : zT t r = 8) : gfI (rI t r f) 8 g (some r) = some (f g) := gfI_v h (by rw [rI_I])
theorem pf8 {G0 : Nat} {t : Sg} {r g : Nat} {f : Nat → Int} {v : Int} (h : zT t r = 8) (h0 : G0 ≤ r) : pfI G0 (rI t r f) 8 g (some r) v = some (rI t r (va_up f g v)) := by rw [pfI_e (show zT (rI t r f) r = 8 from h) h0, rI_set]
/-- the text and the words, for the reader at r -/
def TX (G : CG) (L : Ly) (t : Sg) (m : Mu) (r : Nat) : Prop := (zT t r = 8 ∧ G0 G ≤ r ∧ zR t r 290 = some (L.1 3) ∧ r ≠ L.1 3) ∧ (zT t (L.1 3) = 1 ∧ zI t (L.1 3) 2 = m.1 2 ∧ 0 ≤ m.1 2 ∧ m.1 2 ≤ 4000 ∧ zR t (L.1 3) 1 = some (L.1 101) ∧ zT t (L.1 101) = 102 ∧ zL t (L.1 101) = 4000 ∧ ∀ i : Nat, (i : Int) < m.1 2 → zA t (L.1 101) i = m.2 1 i) ∧ (zR t (L.1 3) 0 = some (L.1 100) ∧ zT t (L.1 100) = 104 ∧ zL t (L.1 100) = 29 ∧ ∀ i : Nat, i < 29 → zA t (L.1 100) i = (enc 256 (wdC i) : Nat) ∧ m.2 0 i = (enc 128 (wdC i) : Nat))
/-- a byte of the text, or -1 -/
def oc (m : Mu) (i : Int) : Int := if m.1 2 ≤ i then -1 else and32 (m.2 1 i.toNat) 255
theorem oc_bd (m : Mu) (i : Int) : -1 ≤ oc m i ∧ oc m i < 256 := by
  unfold oc
  split
  · omega
  · have := and255 (m.2 1 i.toNat); omega
theorem oc_in {m : Mu} {i : Int} (h : 0 ≤ oc m i) : i < m.1 2 := by
  unfold oc at h
  split at h
  · omega
  · omega
theorem oc_w (m : Mu) (i : Int) : w32 (oc m i) = oc m i := by have := oc_bd m i; exact w32_id (by omega) (by omega)
theorem c_oct {G : CG} {L : Ly} {t : Sg} {m : Mu} {r : Nat} {f : Nat → Int} (h : TX G L t m r) {i : Int} (h0 : 0 ≤ i) (h1 : i ≤ 10000) : f7_octet G (some r) i (rI t r f) = some (oc m i) := by
  obtain ⟨⟨a1, a2, a3, a4⟩, ⟨b1, b2, b3, b4, b5, b6, b7, b8⟩, -⟩ := h
  unfold f7_octet oc
  have i2 : zI (rI t r f) (L.1 3) 2 = m.1 2 := by rw [rI_o (fun q => a4 q.symm)]; exact b2
  rw [gfR_v (show zT (rI t r f) r = 8 from a1) (show zR (rI t r f) r 290 = _ from a3), Option.bind_some, gfI_v (show zT (rI t r f) (L.1 3) = 1 from b1) i2, Option.bind_some, w32_id (x := m.1 2) (by omega) (by omega), w32_id (x := i) (by omega) (by omega)]
  by_cases q : m.1 2 ≤ i
  · rw [if_pos q, if_pos q]
  · rw [if_neg q, if_neg q, Option.bind_some, gfR_v (show zT (rI t r f) (L.1 3) = 1 from b1) (show zR (rI t r f) (L.1 3) 1 = _ from b5), Option.bind_some, alI_e i.toNat (show zT (rI t r f) (L.1 101) = 100 + 2 from b6) (by omega) (by show _ < zL t _; omega) (by show zL t _ ≤ _; omega), Option.bind_some]
    show some (and32 (zA t (L.1 101) i.toNat) 255) = _
    rw [b8 i.toNat (by omega)]
theorem m_oct {m : Mu} {i : Int} (h2 : 0 ≤ m.1 2 ∧ m.1 2 ≤ 4000) (h0 : 0 ≤ i) (h1 : i ≤ 10000) : m5_octet i m = some (oc m i) := by
  unfold m5_octet oc
  rw [w32_id (x := m.1 2) (by omega) (by omega), w32_id (x := i) (by omega) (by omega)]
  by_cases q : m.1 2 ≤ i
  · rw [if_pos q, if_pos q]
  · rw [if_neg q, if_neg q, mald_e i.toNat (by omega) (by omega) (by omega), Option.bind_some]
theorem oc_cg {m m' : Mu} (h1 : m'.1 2 = m.1 2) (h2 : m'.2 1 = m.2 1) (i : Int) : oc m' i = oc m i := by unfold oc; rw [h1, h2]
abbrev isL (x : Int) : Prop := 97 ≤ x ∧ x ≤ 122
abbrev isD (x : Int) : Prop := 48 ≤ x ∧ x ≤ 57
theorem rng_e {x lo hi : Int} : (if x < lo then some 0 else if hi < x then some 0 else some 1) = some (b2i (decide (lo ≤ x ∧ x ≤ hi))) := by
  by_cases q1 : x < lo
  · rw [if_pos q1, decide_eq_false (by omega)]; rfl
  · rw [if_neg q1]
    by_cases q2 : hi < x
    · rw [if_pos q2, decide_eq_false (by omega)]; rfl
    · rw [if_neg q2, decide_eq_true ⟨by omega, by omega⟩]; rfl
theorem c_let {G : CG} {v : Option Nat} {u : Sg} {x : Int} (h : w32 x = x) : f7_isLetter G v x u = some (b2i (decide (isL x))) := by unfold f7_isLetter; rw [h]; exact rng_e
theorem c_fig {G : CG} {v : Option Nat} {u : Sg} {x : Int} (h : w32 x = x) : f7_isFigure G v x u = some (b2i (decide (isD x))) := by unfold f7_isFigure; rw [h]; exact rng_e
theorem m_let {x : Int} (h : w32 x = x) : m5_isLetter x = some (b2i (decide (isL x))) := by unfold m5_isLetter; rw [h]; exact rng_e
theorem m_fig {x : Int} (h : w32 x = x) : m5_isFigure x = some (b2i (decide (isD x))) := by unfold m5_isFigure; rw [h]; exact rng_e
theorem up_up {α : Type} {f : Nat → α} {k : Nat} {v w : α} : va_up (va_up f k v) k w = va_up f k w := by
  funext j
  rw [va_up_e, va_up_e, va_up_e]
  by_cases h : j = k
  · rw [if_pos h, if_pos h]
  · rw [if_neg h, if_neg h, if_neg h]
theorem up_s {α : Type} {f : Nat → α} {k : Nat} {v : α} : va_up f k v k = v := by rw [va_up_e, if_pos rfl]
theorem up_o {α : Type} {f : Nat → α} {k j : Nat} {v : α} (h : j ≠ k) : va_up f k v j = f j := by rw [va_up_e, if_neg h]
theorem up_id {α : Type} {f : Nat → α} {k : Nat} {v : α} (h : f k = v) : va_up f k v = f := by
  funext j
  rw [va_up_e]
  by_cases q : j = k
  · rw [if_pos q, q, h]
  · rw [if_neg q]
theorem ms_e (s : Nat → Int) (A : Nat → Nat → Int) (k : Nat) (v : Int) : ms (s, A) k v = (va_up s k v, A) := rfl
/-- the reader's and the twin's places -/
abbrev tPo (t : Sg) (r : Nat) (f : Nat → Int) (p : Int) : Sg := rI t r (va_up f 280 p)
abbrev mP (m : Mu) (p : Int) : Mu := (va_up m.1 3 p, m.2)
theorem mP_3 (m : Mu) (p : Int) : (mP m p).1 3 = p := up_s (f := m.1) (k := 3) (v := p)
theorem mP_o (m : Mu) (p : Int) {k : Nat} (h : k ≠ 3) : (mP m p).1 k = m.1 k := up_o (f := m.1) h
theorem oc_mP (m : Mu) (p i : Int) : oc (mP m p) i = oc m i := oc_cg (mP_o m p (by decide)) rfl i
theorem m_octP {m : Mu} {p : Int} (h2 : 0 ≤ m.1 2 ∧ m.1 2 ≤ 4000) (h0 : 0 ≤ p) (h1 : p ≤ 10000) : m5_octet ((mP m p).1 3) (mP m p) = some (oc m p) := by
  rw [mP_3, m_oct (m := mP m p) (by rw [mP_o m p (by decide)]; exact h2) h0 h1, oc_mP]
/-- a comment is passed -/
theorem pass_com {G : CG} {L : Ly} {t : Sg} {m : Mu} {r : Nat} {f : Nat → Int} (h : TX G L t m r) {v : Int} {p : Int} (h0 : 0 ≤ p) (h1 : p ≤ m.1 2) : sim (f7_pass_l21 G (some r) v NN (tPo t r f p)) (m5_next_l58 v NN (mP m p)) (fun a b => ∃ q, p ≤ q ∧ q ≤ m.1 2 ∧ a = tPo t r f q ∧ b = mP m q ∧ (oc m q < 0 ∨ oc m q = 10)) := by
  have b34 := h.2.1.2.2
  have key := sim_loop (fun n (q : Int) => f7_pass_l21 G (some r) v n (tPo t r f q)) (fun n (q : Int) => m5_next_l58 v n (mP m q)) (fun q _ => (m.1 2 - q).toNat) (fun a b => a = b ∧ p ≤ a ∧ a ≤ m.1 2) (fun a b => ∃ q, p ≤ q ∧ q ≤ m.1 2 ∧ a = tPo t r f q ∧ b = mP m q ∧ (oc m q < 0 ∨ oc m q = 10)) (by
    rintro n k q q' ⟨rfl, q1, q2⟩ ih
    show sim (f7_pass_l21 G (some r) v (n + 1) (tPo t r f q)) (m5_next_l58 v (k + 1) (mP m q)) _
    unfold f7_pass_l21 m5_next_l58
    have e8 : zT (tPo t r f q) r = 8 := h.1.1
    refine sim_L (gf8 h.1.1) ?_
    rw [up_s]
    refine sim_L (ztg_e e8) (sim_L (c_oct h (by omega) (by omega)) (sim_R (m_octP ⟨b34.1, b34.2.1⟩ (by omega) (by omega)) ?_))
    rw [oc_w]
    refine sim_ite Iff.rfl (fun z => sim_some ⟨q, q1, q2, rfl, rfl, Or.inl z⟩) (fun z => ?_)
    refine sim_L (gf8 h.1.1) ?_
    rw [up_s]
    refine sim_L (ztg_e e8) (sim_L (c_oct h (by omega) (by omega)) (sim_R (m_octP ⟨b34.1, b34.2.1⟩ (by omega) (by omega)) ?_))
    rw [oc_w]
    refine sim_ite Iff.rfl (fun z2 => sim_some ⟨q, q1, q2, rfl, rfl, Or.inr z2⟩) (fun z2 => ?_)
    have hq := oc_in (m := m) (i := q) (by omega)
    refine sim_L (gf8 h.1.1) (sim_L (pf8 h.1.1 h.1.2.1) (sim_S ?_))
    rw [up_s, up_up, ms_e, mP_3, up_up]
    exact ih (q + 1) (q + 1) ⟨rfl, by omega, by omega⟩ (by omega)) NN NN p p ⟨rfl, Int.le_refl _, h1⟩ (NN_gt (by omega)) (NN_gt (by omega))
  exact key
/-- blanks and comments are passed -/
theorem pass_all {G : CG} {L : Ly} {t : Sg} {m : Mu} {r : Nat} {f : Nat → Int} (h : TX G L t m r) {p : Int} (h0 : 0 ≤ p) (h1 : p ≤ m.1 2) : sim (f7_pass G (some r) (tPo t r f p)) (m5_next_l2 NN 1 (mP m p)) (fun a b => ∃ q, p ≤ q ∧ q ≤ m.1 2 ∧ a = tPo t r f q ∧ b = mP m q) := by
  have b34 := h.2.1.2.2
  have key := sim_loop (fun n (w : Bool × Int) => f7_pass_l2 G (some r) n (b2i w.1) (tPo t r f w.2)) (fun n (w : Bool × Int) => m5_next_l2 n (b2i w.1) (mP m w.2)) (fun w _ => (if w.1 then 1 else 0) + 2 * (m.1 2 - w.2).toNat) (fun a b => a = b ∧ p ≤ a.2 ∧ a.2 ≤ m.1 2) (fun a b => ∃ q, p ≤ q ∧ q ≤ m.1 2 ∧ a = tPo t r f q ∧ b = mP m q) (by
    rintro n k ⟨b, q⟩ w' ⟨rfl, q1, q2⟩ ih
    dsimp only at q1 q2 ⊢
    show sim (f7_pass_l2 G (some r) (n + 1) (b2i b) (tPo t r f q)) (m5_next_l2 (k + 1) (b2i b) (mP m q)) _
    unfold f7_pass_l2 m5_next_l2
    rw [w32_b2i]
    cases b with
    | false => exact sim_posL rfl (sim_posR rfl (sim_some ⟨q, q1, q2, rfl, rfl⟩))
    | true =>
      refine sim_negL (by decide) (sim_negR (by decide) ?_)
      have e8 : zT (tPo t r f q) r = 8 := h.1.1
      refine sim_L (gf8 h.1.1) ?_
      rw [up_s]
      refine sim_L (ztg_e e8) (sim_L (c_oct h (by omega) (by omega)) (sim_R (m_octP ⟨b34.1, b34.2.1⟩ (by omega) (by omega)) ?_))
      rw [oc_w]
      have adv : 0 ≤ oc m q → sim (f7_pass_b82 G (f7_pass_l2 G (some r) n) (some r) (b2i true) (tPo t r f q)) (m5_next_b39 (m5_next_l2 k) (b2i true) (mP m q)) (fun a b => ∃ q, p ≤ q ∧ q ≤ m.1 2 ∧ a = tPo t r f q ∧ b = mP m q) := by
        intro ho
        have hq := oc_in ho
        unfold f7_pass_b82 m5_next_b39
        refine sim_L (gf8 h.1.1) (sim_L (pf8 h.1.1 h.1.2.1) (sim_S ?_))
        rw [up_s, up_up, ms_e, mP_3, up_up]
        exact ih (true, q + 1) (true, q + 1) ⟨rfl, by dsimp only; omega, by dsimp only; omega⟩ (by dsimp only; omega)
      by_cases c35 : oc m q = 35
      · refine sim_posL c35 (sim_negR (by omega) (sim_negR (by omega) (sim_negR (by omega) (sim_negR (by omega) (sim_posR c35 ?_)))))
        refine sim_bind (pass_com h (by omega) q2) ?_
        rintro a b ⟨q', e1, e2, rfl, rfl, e3⟩
        have hne : q' ≠ q := fun e => by rw [e] at e3; omega
        exact ih (true, q') (true, q') ⟨rfl, by dsimp only; omega, by dsimp only; omega⟩ (by dsimp only; omega)
      · refine sim_negL c35 ?_
        refine sim_ite Iff.rfl (fun z => adv (by omega)) (fun z1 => sim_ite Iff.rfl (fun z => adv (by omega)) (fun z2 => sim_ite Iff.rfl (fun z => adv (by omega)) (fun z3 => sim_ite Iff.rfl (fun z => adv (by omega)) (fun z4 => sim_negR c35 ?_))))
        exact ih (false, q) (false, q) ⟨rfl, q1, q2⟩ (by dsimp only; simp)) NN NN (true, p) (true, p) ⟨rfl, Int.le_refl _, h1⟩ (NN_gt (by dsimp only; simp; omega)) (NN_gt (by dsimp only; simp; omega))
  obtain ⟨a, b, e1, e2, k⟩ := key
  refine ⟨a, b, ?_, e2, k⟩
  unfold f7_pass
  have e1 : f7_pass_l2 G (some r) NN 1 (tPo t r f p) = some a := e1
  rw [e1]; rfl
