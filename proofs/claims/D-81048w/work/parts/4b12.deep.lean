/-! THE READER: deeper; outcomes -/
/-- the twin's next, whatever its fault -/
theorem nextT {G : CG} {L : Ly} {t : Sg} {m m1 : Mu} {r : Nat} (h : R7 G L t m r) (e2 : m1.1 2 = m.1 2) (e3 : m1.1 3 = m.1 3) (a0 : m1.2 0 = m.2 0) (a1 : m1.2 1 = m.2 1) : ∃ m', m5_next m1 = some m' ∧ m'.2 = m1.2 ∧ ∀ k, (k < 3 ∨ 7 < k) → m'.1 k = m1.1 k := by
  obtain ⟨h1, h2, h3, -⟩ := h
  have hTX : TX G L t m1 r := TX_k h1 ⟨h2.2.2.1, h2.2.2.2.1, h2.2.2.2.2.1, h2.2.2.2.2.2⟩ fr7_rf e2 a0 a1
  obtain ⟨a, m', -, k2, k3⟩ := next_ok hTX h2.1 h2.2.1 (g := zI t r) (by rw [e3]; exact h3.2.1) (by rw [e3]; have := h3.2.2.1; have := h3.2.2.2.1; omega) (by rw [e3, e2]; exact h3.2.2.2.2.1)
  exact ⟨m', k2, k3.1, k3.2.1⟩
def psh (m : Mu) (v : Int) : Mu := ms (ma (ms m 50 (m.1 50 + 1)) 48 (m.1 49).toNat v) 49 (m.1 49 + 1)
theorem psh_fr {m : Mu} {v : Int} : mfr [49, 50] [48] m (psh m v) := mfr_ms (mfr_ma (mfr_ms mfr_rf (by simp)) (by simp)) (by simp)
theorem psh_49 {m : Mu} {v : Int} : (psh m v).1 49 = m.1 49 + 1 := by unfold psh; rw [ms_1, if_pos rfl]
theorem psh_50 {m : Mu} {v : Int} : (psh m v).1 50 = m.1 50 + 1 := by unfold psh; rw [ms_1, if_neg (by decide), ma_1, ms_1, if_pos rfl]
theorem psh_48 {m : Mu} {v : Int} (i : Nat) : (psh m v).2 48 i = if i = (m.1 49).toNat then v else m.2 48 i := by unfold psh; rw [ms_2, ma_s, ms_2]
theorem m_b15 {m : Mu} {v : Int} (h0 : 0 ≤ m.1 49) (h1 : m.1 49 < 4100) : m5_deeper_b15 v m = some (psh m v) := by
  unfold m5_deeper_b15
  rw [Option.bind_some]
  have e49 : (ms m 50 (m.1 50 + 1)).1 49 = m.1 49 := by rw [ms_1, if_neg (by decide)]
  rw [e49, mast_e (m.1 49).toNat (by omega) (by omega) (by omega), Option.bind_some, ma_1, e49, Option.bind_some]
  rfl
/-- an entry is put on the pile -/
theorem PM_push {m m' : Mu} {S : List Int} {v : Int} (h : PM m S) (hl : m.1 46 + (S.length : Int) ≤ 4000) (hv : v = 2 ∨ v = 3 ∨ v = 4 ∨ v = 8) (e49 : m'.1 49 = m.1 49 + 1) (e46 : m'.1 46 = m.1 46) (e48 : ∀ i, m'.2 48 i = if i = (m.1 49).toNat then v else m.2 48 i) : PM m' (v :: S) := by
  obtain ⟨h1, h2, h3, h4, h5⟩ := h
  have hT : (m.1 49).toNat = S.length := by omega
  refine ⟨by rw [e49, h1]; simp, ⟨by rw [e48, if_pos hT.symm], PL_cg S (fun i hi => by rw [e48, if_neg (by omega)]) h2⟩, fun x hx => ?_, by rw [e46]; exact h4, by rw [e46]; simp only [List.length_cons]; omega⟩
  rcases List.mem_cons.mp hx with rfl | hx
  · exact hv
  · exact h3 x hx
theorem PM_psh {m : Mu} {S : List Int} {v : Int} (h : PM m S) (hl : m.1 46 + (S.length : Int) ≤ 4000) (hv : v = 2 ∨ v = 3 ∨ v = 4 ∨ v = 8) : PM (psh m v) (v :: S) := PM_push h hl hv psh_49 (psh_fr.1 46 (by decide)) psh_48
/-- PM looks at the pile and the number of nodes alone -/
theorem PM_eq {m m' : Mu} {S : List Int} (h : PM m S) (e49 : m'.1 49 = m.1 49) (e46 : m'.1 46 = m.1 46) (e48 : m'.2 48 = m.2 48) : PM m' S := by
  unfold PM
  rw [e49, e46, e48]
  exact h
/-- deeper and next of a twin with a fault: the fault stays -/
theorem deepF {G : CG} {L : Ly} {t : Sg} {m m1 : Mu} {r : Nat} (h : R7 G L t m r) (e2 : m1.1 2 = m.1 2) (e3 : m1.1 3 = m.1 3) (a0 : m1.2 0 = m.2 0) (a1 : m1.2 1 = m.2 1) (h49 : 0 ≤ m1.1 49 ∧ m1.1 49 < 4100) (h8 : m1.1 8 = 6) (v : Int) : ∃ m2 m3, m5_deeper v m1 = some m2 ∧ m5_next m2 = some m3 ∧ m3.1 8 = m1.1 8 ∧ m3.1 9 = m1.1 9 ∧ mfr CS7 CA7 m1 m3 := by
  obtain ⟨m3, k1, k2, k3⟩ := nextT (m1 := psh m1 v) h (by rw [psh_fr.1 2 (by decide)]; exact e2) (by rw [psh_fr.1 3 (by decide)]; exact e3) (by rw [psh_fr.2 0 (by decide)]; exact a0) (by rw [psh_fr.2 1 (by decide)]; exact a1)
  refine ⟨psh m1 v, m3, ?_, k1, by rw [k3 8 (by omega), psh_fr.1 8 (by decide)], by rw [k3 9 (by omega), psh_fr.1 9 (by decide)], mfr_tr (mfr_up psh_fr (by decide) (by decide)) ⟨fun k hk => k3 k (by simp only [CS7, List.mem_cons, List.not_mem_nil, or_false] at hk; omega), fun k _ => by rw [k2]⟩⟩
  unfold m5_deeper
  by_cases z : w32 (m1.1 50) ≤ 15
  · rw [if_pos z]; exact m_b15 h49.1 h49.2
  · rw [if_neg z, m_wrong0 (by rw [h8]; decide) (by rw [h8]; decide), Option.bind_some]; exact m_b15 h49.1 h49.2
theorem deep7 {G : CG} {L : Ly} {t : Sg} {m : Mu} {r dp : Nat} (h : R7 G L t m r) (hk : m.1 4 ≠ 0) (hc : m.1 52 ≤ m.1 5 + 1) (hd : zI t r 287 = (dp : Int)) (hd2 : m.1 50 = (dp : Int)) (hd3 : dp ≤ 16) (h49 : 0 ≤ m.1 49 ∧ m.1 49 < 4100) (v : Int) : (dp = 16 ∧ (∃ e t', f7_deeper G (some r) t = some ((.inl e, t'), 1, 8) ∧ TH7 r t (m.1 5) e t' 1 8 6 (m.1 5)) ∧ ∃ m2 m3, m5_deeper v m = some m2 ∧ m5_next m2 = some m3 ∧ MF m m3 6 (m.1 5)) ∨ (dp ≤ 15 ∧ m5_deeper v m = some (psh m v) ∧ ∃ m3, m5_next (psh m v) = some m3 ∧ m3.2 = (psh m v).2 ∧ (∀ k, (k < 3 ∨ 7 < k) → m3.1 k = (psh m v).1 k) ∧ m.1 5 < m3.1 5 ∧ m3.1 5 ≤ 512 ∧ ((∃ t', f7_deeper G (some r) t = some ((.inr (), t'), 0, 0) ∧ R7 G L t' m3 r ∧ m3.1 52 ≤ m3.1 5 ∧ fr7 r t t' ∧ zI t' r 287 = ((dp + 1 : Nat) : Int)) ∨ (∃ e t', f7_deeper G (some r) t = some ((.inl e, t'), 1, 8) ∧ TH7 r t (m.1 5) e t' 1 8 1 (m3.1 5) ∧ m3.1 4 = 5 ∧ m3.1 8 = 0))) := by
  by_cases z : dp = 16
  · left
    refine ⟨z, ?_, ?_⟩
    · obtain ⟨t', e, hth⟩ := c_throw (α := Unit) h 6
      refine ⟨_, t', ?_, hth⟩
      unfold f7_deeper
      rw [gfI_v h.1.1.1 hd, Option.bind_some, w32_n (by omega), if_neg (by omega)]
      exact e
    · obtain ⟨m', em, hm, hm2, hm3⟩ := m_wrong h.2.2.2.2.2 6
      obtain ⟨m2, m3, k1, k2, k3, k4, k5⟩ := deepF (m1 := m') h (hm2 2 (by decide) (by decide)) (hm2 3 (by decide) (by decide)) (by rw [hm3]) (by rw [hm3]) (by rw [hm2 49 (by decide) (by decide)]; exact h49) hm.1 v
      refine ⟨m2, m3, ?_, k2, by rw [k3]; exact hm.1, by rw [k4]; exact hm.2.1, mfr_tr hm.2.2 k5⟩
      unfold m5_deeper at k1 ⊢
      rw [hm2 50 (by decide) (by decide), hd2, w32_n (by omega), if_neg (by omega), m_wrong0 (by rw [hm.1]; decide) (by rw [hm.1]; decide), Option.bind_some] at k1
      rw [hd2, w32_n (by omega), if_neg (by omega), em, Option.bind_some]
      exact k1
  · right
    have e1 : m5_deeper v m = some (psh m v) := by
      unfold m5_deeper
      rw [hd2, w32_n (by omega), if_pos (by omega)]
      exact m_b15 h49.1 h49.2
    obtain ⟨t1, ht1⟩ : ∃ t1, t1 = zsI t r 287 ((dp : Int) + 1) := ⟨_, rfl⟩
    have fr1 : fr7 r t t1 := by rw [ht1]; exact fr7_287
    have R1 : R7 G L t1 (psh m v) r := R7_m (R7_k h fr1 (fun j hj => by rw [ht1, zsI_I, if_neg (fun q => hj q.2)])) (mfr_up psh_fr (by decide) (by decide))
    obtain ⟨m3, n1, n2, n3, n4, n5, n6, n7⟩ := next7m R1 (by rw [psh_fr.1 4 (by decide)]; exact hk) (by rw [psh_fr.1 52 (by decide), psh_fr.1 5 (by decide)]; exact hc)
    rw [psh_fr.1 5 (by decide)] at n5 n7
    have ed : ∀ {β : Type} (K : (Nat ⊕ Unit) × Sg → Option (((Nat ⊕ Unit) × Sg) × Nat × Nat)), f7_deeper G (some r) t = (bdU (f7_next G (some r) t1) fun q5 => tel q5.1 (fun e6 => xth e6 q5.2) fun x7 => some ((.inr (), q5.2), 0, 0)) := fun K => by
      unfold f7_deeper
      rw [gfI_v h.1.1.1 hd, Option.bind_some, w32_n (by omega), if_pos (by omega), Option.bind_some, pfI_e h.1.1.1 h.1.1.2.1, Option.bind_some, ← ht1, ztg_e R1.1.1.1, Option.bind_some]
    refine ⟨by omega, e1, m3, n1, n2, n3, n5, n6, ?_⟩
    rcases n7 with ⟨t', p1, p2, p3, p4, p5⟩ | ⟨e, t', p1, p2, p3, p4⟩
    · left
      refine ⟨t', ?_, p2, p3, fr7_tr fr1 p4, ?_⟩
      · rw [ed (β := Unit) (fun _ => none), p1, te_ok]
      · rw [p5, ht1, zsI_I, if_pos ⟨rfl, rfl⟩]; omega
    · right
      refine ⟨e, t', ?_, TH7_tr fr1 (Int.le_refl _) p2 (by omega) (by omega), p3, p4⟩
      rw [ed (β := Unit) (fun _ => none), p1, xt_tel p2.1]
/-! what reading a piece of a condition comes to; lv: 0 part, 1 ands, 2 ors -/
def okP (lv : Nat) (pend : List Int) : Prop := (∀ x ∈ pend, x = 3 ∨ x = 4) ∧ (lv ≤ 1 → ∀ x ∈ pend, x = 3) ∧ (lv = 0 → pend = [])
def nxP (lv : Nat) (m : Mu) : Prop := (1 ≤ lv → ¬ (m.1 4 = 4 ∧ m.1 7 = 22)) ∧ (2 ≤ lv → ¬ (m.1 4 = 4 ∧ m.1 7 = 21))
/-- what the twin has made: rows ns, then the NOs that stood on the pile -/
def MADE (W : Wv) (m m' : Mu) (S pend : List Int) (ns es : List Nd) : Prop := (PM m' (pend ++ strip S) ∧ m'.1 50 = m.1 50 - (nots S : Int) ∧ mfr CS7 CA7 m m') ∧ (m'.1 46 = m.1 46 + ((ns.length + es.length : Nat) : Int) ∧ NDS m' (m.1 46).toNat (ns ++ es) ∧ ∀ i, i < (m.1 46).toNat → ndN m' i = ndN m i) ∧ (es.length = nots S ∧ ∀ q ∈ es, q.1 = 2) ∧ (m'.1 52 = m.1 52 + ((ns.length + pend.length : Nat) : Int) ∧ m'.1 46 + ((pend ++ strip S).length : Int) ≤ m'.1 5) ∧ ∀ q ∈ ns, okN (nF W) (nM W) q
/-- what it cost -/
def CST (a b : Int) (k cc nn : Nat) : Prop := a < b ∧ (k : Int) ≤ b - a ∧ (cc : Int) + 10 ≤ 20 * (b - a) ∧ (nn : Int) + 300 ≤ 600 * (b - a)
def GOOD (G : CG) (L : Ly) (r : Nat) (W : Wv) (lv e : Nat) (t : Sg) (m : Mu) (S : List Int) (x : Option (((Nat ⊕ Option Nat) × Sg) × Nat × Nat)) : Prop := ∃ c t' cc nn m' k pend ns es, x = some ((.inr (some c), t'), cc, nn) ∧ (∀ n, m5_cond_l12 (n + k) 1 m = m5_cond_l12 n 0 m') ∧ (R7 G L t' m' r ∧ fr7 r t t' ∧ zI t' r 287 = zI t r 287 ∧ m'.1 52 ≤ m'.1 5) ∧ MADE W m m' S pend ns es ∧ okP lv pend ∧ (∀ qs : List Nd, qs.map (fun q => q.1) = pend → CA (FN (zN t) W t') G t' e c (ns ++ qs)) ∧ nxP lv m' ∧ CST (m.1 5) (m'.1 5) k cc nn
def THRW (r : Nat) (t : Sg) (v : Int) (m : Mu) (x : Option (((Nat ⊕ Option Nat) × Sg) × Nat × Nat)) : Prop := ∃ e' t' cc nn K P m' k, x = some ((.inl e', t'), cc, nn) ∧ TH7 r t (m.1 5) e' t' cc nn K P ∧ (∀ n, TC (n + k) v m = some m') ∧ MFB m m' K P ∧ (k : Int) ≤ P - m.1 5 + 3
def DOOM (G : CG) (L : Ly) (r : Nat) (t : Sg) (v : Int) (m : Mu) (x : Option (((Nat ⊕ Option Nat) × Sg) × Nat × Nat)) : Prop := ∃ c t' cc nn m' md k, x = some ((.inr (some c), t'), cc, nn) ∧ DM G L r t c t' md ∧ (∀ n, TC (n + k) v m = some m') ∧ MF m m' 2 (md.1 5) ∧ (k : Int) ≤ md.1 5 - m.1 5 + 3 ∧ m.1 5 < md.1 5 ∧ (cc : Int) ≤ 20 * (md.1 5 - m.1 5) ∧ (nn : Int) ≤ 600 * (md.1 5 - m.1 5)
def OUT (G : CG) (L : Ly) (r : Nat) (W : Wv) (lv e : Nat) (t : Sg) (m : Mu) (S : List Int) (x : Option (((Nat ⊕ Option Nat) × Sg) × Nat × Nat)) : Prop := GOOD G L r W lv e t m S x ∨ THRW r t 1 m x ∨ DOOM G L r t 1 m x
theorem TC_st {v v' : Int} {k : Nat} {m m' : Mu} (h : ∀ n, m5_cond_l12 (n + k) v m = m5_cond_l12 n v' m') : ∀ n, TC (n + k) v m = TC n v' m' := fun n => by unfold TC; rw [h n]
