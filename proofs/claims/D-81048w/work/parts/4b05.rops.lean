/-! THE READER: state, small steps -/
/-- since t only the reader's numbers and new cells -/
def fr7 (r : Nat) (t t' : Sg) : Prop := gro t t' ∧ (∀ a, a < zN t → a ≠ r → sam t t' a) ∧ zT t' r = zT t r ∧ zR t' r = zR t r ∧ zI t' r 289 = zI t r 289
theorem fr7_rf {r : Nat} {t : Sg} : fr7 r t t := ⟨gro_rf, fun _ _ _ => sam_rf, rfl, rfl, rfl⟩
theorem fr7_tr {r : Nat} {a b c : Sg} (h : fr7 r a b) (k : fr7 r b c) : fr7 r a c := ⟨gro_tr h.1 k.1, fun x h1 h2 => sam_tr (h.2.1 x h1 h2) (k.2.1 x (by have := h.1.1; omega) h2), k.2.2.1.trans h.2.2.1, k.2.2.2.1.trans h.2.2.2.1, k.2.2.2.2.trans h.2.2.2.2⟩
theorem fr7_rI {r : Nat} {t : Sg} {g : Nat → Int} (hg : g 289 = zI t r 289) : fr7 r t (rI t r g) := ⟨gro_rf, fun a _ h => ⟨rfl, rfl, rI_o h, rfl, rfl, rfl⟩, rfl, rfl, by rw [rI_I]; exact hg⟩
theorem fr7_FLT {r : Nat} {t t' : Sg} {e : Nat} {K P : Int} (hr : r < zN t) (h : FLT t e K P t') : fr7 r t t' := by
  obtain ⟨h1, h2, h3, h4, h5, h6, h7⟩ := h
  exact ⟨h6, fun a ha _ => h7 a ha, (h7 r hr).1, (h7 r hr).2.2.2.1, by rw [(h7 r hr).2.2.1]⟩
def CS7 : List Nat := [3, 4, 5, 6, 7, 8, 9, 46, 49, 50, 52]
def CA7 : List Nat := [42, 43, 44, 45, 48]
/-- the limits of nodes -/
def LIM (a b : Int) : Prop := (a = 300 ∧ b = 300) ∨ (a = 4000 ∧ b = 5000)
/-- reading goes on: text, token, nodes; no fault -/
def R7 (G : CG) (L : Ly) (t : Sg) (m : Mu) (r : Nat) : Prop := TX G L t m r ∧ (G0 G ≤ zN t ∧ r < zN t ∧ L.1 3 < zN t ∧ L.1 100 < zN t ∧ L.1 101 < zN t ∧ r ≠ L.1 100 ∧ r ≠ L.1 101) ∧ TKR (zI t r) m.1 (m.1 2) ∧ (zI t r 288 = m.1 52 ∧ (0 ≤ m.1 52 ∧ m.1 52 ≤ m.1 47) ∧ m.1 2 ≤ 512) ∧ LIM (zI t r 289) (m.1 47) ∧ m.1 8 = 0
theorem TX_k {G : CG} {L : Ly} {t t' : Sg} {m m' : Mu} {r : Nat} (h : TX G L t m r) (hz : L.1 3 < zN t ∧ L.1 100 < zN t ∧ L.1 101 < zN t ∧ r ≠ L.1 100 ∧ r ≠ L.1 101) (k : fr7 r t t') (h2 : m'.1 2 = m.1 2) (h0 : m'.2 0 = m.2 0) (h1 : m'.2 1 = m.2 1) : TX G L t' m' r := by
  obtain ⟨⟨a1, a2, a3, a4⟩, ⟨b1, b2, b3, b4, b5, b6, b7, b8⟩, ⟨c1, c2, c3, c4⟩⟩ := h
  have s3 := k.2.1 _ hz.1 (fun q => a4 q.symm)
  have s0 := k.2.1 _ hz.2.1 (fun q => hz.2.2.2.1 q.symm)
  have s1 := k.2.1 _ hz.2.2.1 (fun q => hz.2.2.2.2 q.symm)
  refine ⟨⟨by rw [k.2.2.1]; exact a1, a2, by rw [k.2.2.2.1]; exact a3, a4⟩, ⟨by rw [s3.1]; exact b1, by rw [s3.2.2.1, h2]; exact b2, by rw [h2]; exact b3, by rw [h2]; exact b4, by rw [s3.2.2.2.1]; exact b5, by rw [s1.1]; exact b6, by rw [s1.2.1]; exact b7, fun i hi => ?_⟩, ⟨by rw [s3.2.2.2.1]; exact c1, by rw [s0.1]; exact c2, by rw [s0.2.1]; exact c3, fun i hi => ?_⟩⟩
  · rw [h2] at hi
    rw [s1.2.2.2.2.1, h1]; exact b8 i hi
  · rw [s0.2.2.2.2.1, h0]; exact c4 i hi
theorem mfr_TX {m m' : Mu} (h : mfr CS7 CA7 m m') : m'.1 2 = m.1 2 ∧ m'.2 0 = m.2 0 ∧ m'.2 1 = m.2 1 := ⟨h.1 2 (by decide), h.2 0 (by decide), h.2 1 (by decide)⟩
/-- a fault was thrown: kind K, place P; w: the place before -/
def TH7 (r : Nat) (t : Sg) (w : Int) (e : Nat) (t' : Sg) (c n : Nat) (K P : Int) : Prop := zT t' e = 9 ∧ (zI t' e 326 = K ∧ 1 ≤ K ∧ K ≤ 6) ∧ zI t' e 327 = P ∧ e < zN t' ∧ fr7 r t t' ∧ (w ≤ P ∧ P ≤ 512) ∧ (c : Int) ≤ 20 * (P - w) + 1 ∧ (n : Int) ≤ 600 * (P - w) + 8
/-- the twin's fault -/
def MF (m m' : Mu) (K P : Int) : Prop := m'.1 8 = K ∧ m'.1 9 = P ∧ mfr CS7 CA7 m m'
theorem TH7_flt {r : Nat} {t t' : Sg} {e : Nat} {K P w : Int} (hr : r < zN t) (hw : w ≤ P ∧ P ≤ 512) (h : FLT t e K P t') (hK : 1 ≤ K ∧ K ≤ 6 := by decide) : TH7 r t w e t' 1 8 K P := ⟨h.1, ⟨h.2.1, hK⟩, h.2.2.1, by have := h.2.2.2.2.1; have := h.2.2.2.1; omega, fr7_FLT hr h, hw, by omega, by omega⟩
/-- next, from a token that is not the end -/
theorem next7 {G : CG} {L : Ly} {t : Sg} {m : Mu} {r : Nat} (h : R7 G L t m r) (hk : m.1 4 ≠ 0) (hc : m.1 52 ≤ m.1 5 + 1) : ∃ m', m5_next m = some m' ∧ m'.2 = m.2 ∧ (∀ k, (k < 3 ∨ 7 < k) → m'.1 k = m.1 k) ∧ m.1 5 < m'.1 5 ∧ m'.1 5 ≤ m.1 2 ∧ ((∃ t', f7_next G (some r) t = some ((.inr (), t'), 0, 0) ∧ R7 G L t' m' r ∧ m'.1 52 ≤ m'.1 5 ∧ fr7 r t t' ∧ zN t' = zN t ∧ ∀ k, (k < 280 ∨ 285 < k) → zI t' r k = zI t r k) ∨ (∃ e t', f7_next G (some r) t = some ((.inl e, t'), 1, 8) ∧ TH7 r t (m.1 5) e t' 1 8 1 (m'.1 5) ∧ m'.1 4 = 5 ∧ m'.1 5 < m.1 2)) := by
  obtain ⟨h1, h2, h3, h4, h5, h6⟩ := h
  obtain ⟨t1, t2, t3, t4, t5, t6⟩ := id h3
  have hlt : m.1 5 < m.1 3 := by
    rcases t6 with z | z
    · exact absurd z.2.1 hk
    · exact z.1
  have hn := next_ok (t := t) h1 h2.1 h2.2.1 (g := zI t r) t2 (by omega) t5
  rw [rI_id] at hn
  obtain ⟨a, m', e1, e2, f1, f2, f3, f4, f5⟩ := hn
  have fr : mfr CS7 CA7 m m' := ⟨fun k hk => f2 k (by simp only [CS7, List.mem_cons, List.not_mem_nil, or_false] at hk; omega), fun k _ => by rw [f1]⟩
  refine ⟨m', e2, f1, f2, by omega, f4, ?_⟩
  rcases f5 with ⟨g', rfl, k1, k2⟩ | ⟨g', u', rfl, k1, k2, k3, k4⟩
  · left
    have hfr : fr7 r t (rI t r g') := fr7_rI (k1 289 (by omega))
    refine ⟨rI t r g', e1, ⟨TX_k h1 ⟨h2.2.2.1, h2.2.2.2.1, h2.2.2.2.2.1, h2.2.2.2.2.2⟩ hfr (f2 2 (by omega)) (by rw [f1]) (by rw [f1]), h2, ?_, ?_, ?_, ?_⟩, ?_, hfr, rfl, fun k hk => by rw [rI_I]; exact k1 k hk⟩
    · rw [rI_I, f2 2 (by omega)]; exact k2
    · rw [rI_I, k1 288 (by omega), f2 52 (by omega), f2 2 (by omega), f2 47 (by omega)]; exact h4
    · rw [rI_I, k1 289 (by omega), f2 47 (by omega)]; exact h5
    · rw [f2 8 (by omega)]; exact h6
    · rw [f2 52 (by omega)]; omega
  · right
    have hfr : fr7 r t (rI t r g') := fr7_rI (k1 289 (by omega))
    have hT := TH7_flt (t := rI t r g') (w := m.1 5) h2.2.1 (by have := h4.2.2; omega) k2
    obtain ⟨q1, q2, q3, q4, q5, q6, q7, q8⟩ := hT
    exact ⟨zN t, u', e1, ⟨q1, q2, q3, q4, fr7_tr hfr q5, q6, q7, q8⟩, k3, k4⟩
/-! questions for the token -/
theorem c_is {G : CG} {L : Ly} {t : Sg} {m : Mu} {r : Nat} (h : R7 G L t m r) {j : Nat} (hj : j < 29) {l : Int} (hl : l = (enc 256 (wdC j) : Nat)) : f7_is G (some r) l t = some (b2i (decide (m.1 4 = 4 ∧ m.1 7 = (j : Int)))) := by
  obtain ⟨⟨a1, -⟩, -, ⟨-, -, -, -, -, t6⟩, -⟩ := h
  have wj := wd_ok hj
  unfold f7_is
  rw [gfI_e a1.1, Option.bind_some]
  rcases t6 with z | ⟨-, z | z | z | ⟨z1, z2, k, k1, k2, k3⟩⟩
  · rw [z.1, if_neg (by decide), decide_eq_false (by omega)]; rfl
  · rw [z.1, if_neg (by decide), decide_eq_false (by omega)]; rfl
  · rw [z.1, if_neg (by decide), decide_eq_false (by omega)]; rfl
  · rw [z.1, if_neg (by decide), decide_eq_false (by omega)]; rfl
  · have wk := wd_ok k1
    rw [z1, if_pos (by decide), gfI_e a1.1, Option.bind_some, k3, hl, enc_w (Or.inl rfl) wk.1 wk.2.2, enc_w (Or.inl rfl) wj.1 wj.2.2, z2, k2]
    by_cases hkj : k = j
    · rw [hkj, if_pos rfl, decide_eq_true ⟨rfl, rfl⟩]; rfl
    · rw [if_neg (fun q => hkj (wd_inj k1 hj ((enc_eqI (Or.inl rfl) wk.1 wj.1).mp q))), decide_eq_false (by omega)]; rfl
theorem m_isW7 {m : Mu} {j : Nat} (hj : j < 100) (h4 : w32 (m.1 4) = m.1 4) (h7 : w32 (m.1 7) = m.1 7) : m5_isWord j m = some (b2i (decide (m.1 4 = 4 ∧ m.1 7 = (j : Int)))) := by
  unfold m5_isWord
  rw [h4, h7, w32_n (by omega)]
  by_cases q1 : m.1 4 = 4
  · rw [if_pos q1]
    by_cases q2 : m.1 7 = (j : Int)
    · rw [if_pos q2, decide_eq_true ⟨q1, q2⟩]; rfl
    · rw [if_neg q2, decide_eq_false (fun z => q2 z.2)]; rfl
  · rw [if_neg q1, decide_eq_false (fun z => q1 z.1)]; rfl
theorem m_isS7 {m : Mu} {j : Nat} (hj : j < 100) (h4 : w32 (m.1 4) = m.1 4) (h7 : m.1 4 = 3 → w32 (m.1 7) = m.1 7) : m5_isSign j m = some (b2i (decide (m.1 4 = 3 ∧ m.1 7 = (j : Int)))) := by
  unfold m5_isSign
  rw [h4]
  by_cases q1 : m.1 4 = 3
  · rw [if_pos q1, h7 q1, w32_n (by omega)]
    by_cases q2 : m.1 7 = (j : Int)
    · rw [if_pos q2, decide_eq_true ⟨q1, q2⟩]; rfl
    · rw [if_neg q2, decide_eq_false (fun z => q2 z.2)]; rfl
  · rw [if_neg q1, decide_eq_false (fun z => q1 z.1)]; rfl
theorem m_isWd {m : Mu} {j : Nat} (hj : j < 100) (h4 : w32 (m.1 4) = m.1 4) (h7 : m.1 4 = 4 → w32 (m.1 7) = m.1 7) : m5_isWord j m = some (b2i (decide (m.1 4 = 4 ∧ m.1 7 = (j : Int)))) := by
  unfold m5_isWord
  rw [h4]
  by_cases q1 : m.1 4 = 4
  · rw [if_pos q1, h7 q1, w32_n (by omega)]
    by_cases q2 : m.1 7 = (j : Int)
    · rw [if_pos q2, decide_eq_true ⟨q1, q2⟩]; rfl
    · rw [if_neg q2, decide_eq_false (fun z => q2 z.2)]; rfl
  · rw [if_neg q1, decide_eq_false (fun z => q1 z.1)]; rfl
/-- the token's numbers -/
theorem tk_w {g s : Nat → Int} {ts : Int} (h : TKR g s ts) : (0 ≤ s 4 ∧ s 4 ≤ 4 ∧ w32 (s 4) = s 4 ∧ g 281 = s 4) ∧ (s 4 = 2 ∨ s 4 = 3 ∨ s 4 = 4 → w32 (s 7) = s 7 ∧ 0 ≤ s 7) := by
  obtain ⟨-, -, -, -, -, t6⟩ := h
  rcases t6 with z | ⟨-, z | z | ⟨z1, z2, k, k1, k2, k3⟩ | ⟨z1, z2, k, k1, k2, k3⟩⟩
  · rw [z.1, z.2.1]; exact ⟨⟨by omega, by omega, by decide, rfl⟩, fun q => by omega⟩
  · rw [z.1, z.2.1]; exact ⟨⟨by omega, by omega, by decide, rfl⟩, fun q => by omega⟩
  · rw [z.1, z.2.1]; exact ⟨⟨by omega, by omega, by decide, rfl⟩, fun q => ⟨w32_id (by omega) (by omega), z.2.2.2.1⟩⟩
  · rw [z1, z2, k2]; exact ⟨⟨by omega, by omega, by decide, rfl⟩, fun q => ⟨w32_n (by omega), by omega⟩⟩
  · rw [z1, z2, k2]; exact ⟨⟨by omega, by omega, by decide, rfl⟩, fun q => ⟨w32_n (by omega), by omega⟩⟩
theorem sgC_inj {i j : Nat} (hi : i < 10) (hj : j < 10) (h : sgC i = sgC j) : i = j := by
  have key : ∀ i j : Fin 10, sgC i.1 = sgC j.1 → i = j := by decide
  exact congrArg Fin.val (key ⟨i, hi⟩ ⟨j, hj⟩ h)
theorem sgC_w {i : Nat} (hi : i < 10) : w32 (sgC i) = sgC i := by
  have key : ∀ i : Fin 10, w32 (sgC i.1) = sgC i.1 := by decide
  exact key ⟨i, hi⟩
theorem c_isS {G : CG} {L : Ly} {t : Sg} {m : Mu} {r : Nat} (h : R7 G L t m r) {j : Nat} (hj : j < 10) {l : Int} (hl : l = sgC j) : f7_isSign G (some r) l t = some (b2i (decide (m.1 4 = 3 ∧ m.1 7 = (j : Int)))) := by
  obtain ⟨⟨a1, -⟩, -, ⟨-, -, -, -, -, t6⟩, -⟩ := h
  unfold f7_isSign
  rw [gfI_e a1.1, Option.bind_some]
  rcases t6 with z | ⟨-, z | z | ⟨z1, z2, k, k1, k2, k3⟩ | z⟩
  · rw [z.1, if_neg (by decide), decide_eq_false (by omega)]; rfl
  · rw [z.1, if_neg (by decide), decide_eq_false (by omega)]; rfl
  · rw [z.1, if_neg (by decide), decide_eq_false (by omega)]; rfl
  · rw [z1, if_pos (by decide), gfI_e a1.1, Option.bind_some, k3, hl, sgC_w k1, sgC_w hj, z2, k2]
    by_cases hkj : k = j
    · rw [hkj, if_pos rfl, decide_eq_true ⟨rfl, rfl⟩]; rfl
    · rw [if_neg (fun q => hkj (sgC_inj k1 hj q)), decide_eq_false (by omega)]; rfl
  · rw [z.1, if_neg (by decide), decide_eq_false (by omega)]; rfl
theorem m_is {G : CG} {L : Ly} {t : Sg} {m : Mu} {r : Nat} (h : R7 G L t m r) {j : Nat} (hj : j < 100) : m5_isWord j m = some (b2i (decide (m.1 4 = 4 ∧ m.1 7 = (j : Int)))) := by
  obtain ⟨k1, k2⟩ := tk_w h.2.2.1
  exact m_isWd hj k1.2.2.1 (fun z => (k2 (by omega)).1)
theorem m_isS {G : CG} {L : Ly} {t : Sg} {m : Mu} {r : Nat} (h : R7 G L t m r) {j : Nat} (hj : j < 100) : m5_isSign j m = some (b2i (decide (m.1 4 = 3 ∧ m.1 7 = (j : Int)))) := by
  obtain ⟨k1, k2⟩ := tk_w h.2.2.1
  exact m_isS7 hj k1.2.2.1 (fun z => (k2 (by omega)).1)
/-! the twin's faults -/
theorem m_wrong {m : Mu} (h : m.1 8 = 0) (K : Int) : ∃ m', m5_wrong K m = some m' ∧ MF m m' K (m.1 5) ∧ (∀ k, k ≠ 8 → k ≠ 9 → m'.1 k = m.1 k) ∧ m'.2 = m.2 := by
  refine ⟨(va_up (va_up m.1 8 K) 9 (m.1 5), m.2), ?_, ⟨?_, up_s (f := va_up m.1 8 K) (k := 9) (v := m.1 5), ?_⟩, fun k k1 k2 => ?_, rfl⟩
  · unfold m5_wrong
    rw [h, if_pos (by decide), Option.bind_some, Option.bind_some]
    show some ((va_up (va_up m.1 8 K) 9 (va_up m.1 8 K 5), m.2) : Mu) = _
    rw [up_o (show 5 ≠ 8 by decide)]
  · show va_up (va_up m.1 8 K) 9 (m.1 5) 8 = K
    rw [up_o (by decide), up_s]
  · exact mfr_ms (mfr_ms mfr_rf (by decide)) (by decide)
  · show va_up (va_up m.1 8 K) 9 (m.1 5) k = m.1 k
    rw [up_o k2, up_o k1]
theorem m_wrong0 {m : Mu} (h : m.1 8 ≠ 0) (hw : w32 (m.1 8) = m.1 8) (K : Int) : m5_wrong K m = some m := by
  unfold m5_wrong
  rw [hw, if_neg h]
theorem m_cannot {m : Mu} (h : m.1 8 = 0) (h4 : w32 (m.1 4) = m.1 4) : ∃ m', m5_cannot m = some m' ∧ MF m m' (if m.1 4 = 5 then 1 else 2) (m.1 5) := by
  unfold m5_cannot m5_cannot_b14
  rw [h4]
  by_cases z : m.1 4 = 5
  · obtain ⟨m', e, k, -⟩ := m_wrong h 1
    refine ⟨m', ?_, by rw [if_pos z]; exact k⟩
    rw [if_pos z, e]; rfl
  · obtain ⟨m', e, k, -⟩ := m_wrong h 2
    refine ⟨m', ?_, by rw [if_neg z]; exact k⟩
    rw [if_neg z, e]; rfl
/-- a fault of the class at the token at hand -/
theorem c_throw0 {α : Type} {G : CG} {L : Ly} {t : Sg} {m : Mu} {r : Nat} (h1 : TX G L t m r) (h2 : G0 G ≤ zN t ∧ r < zN t) (h3 : TKR (zI t r) m.1 (m.1 2)) (h4 : m.1 2 ≤ 512) (K : Int) (hK : 1 ≤ K ∧ K ≤ 6 := by decide) : ∃ t', (bdU (zNew t 9 8) fun q => (gfI q.2 8 282 (some r)).bind fun x => (f8_init G (some q.1) K x q.2).bind fun u4 => (xth q.1 u4 : Option (((Nat ⊕ α) × Sg) × Nat × Nat))) = some ((.inl (zN t), t'), 1, 8) ∧ TH7 r t (m.1 5) (zN t) t' 1 8 K (m.1 5) := by
  obtain ⟨t1, -, -, t4, t5, -⟩ := h3
  obtain ⟨t', e, hf⟩ := c_flt (α := α) (K := K) h2.1 h2.2 h1.1.1 t1
  exact ⟨t', e, TH7_flt h2.2 ⟨Int.le_refl _, by omega⟩ hf hK⟩
theorem c_throw {α : Type} {G : CG} {L : Ly} {t : Sg} {m : Mu} {r : Nat} (h : R7 G L t m r) (K : Int) (hK : 1 ≤ K ∧ K ≤ 6 := by decide) : ∃ t', (bdU (zNew t 9 8) fun q => (gfI q.2 8 282 (some r)).bind fun x => (f8_init G (some q.1) K x q.2).bind fun u4 => (xth q.1 u4 : Option (((Nat ⊕ α) × Sg) × Nat × Nat))) = some ((.inl (zN t), t'), 1, 8) ∧ TH7 r t (m.1 5) (zN t) t' 1 8 K (m.1 5) := c_throw0 h.1 ⟨h.2.1.1, h.2.1.2.1⟩ h.2.2.1 h.2.2.2.1.2.2 K hK
