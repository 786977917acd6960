/-! THE READER: conditions, whole -/
theorem OUT_up {G : CG} {L : Ly} {r : Nat} {W : Wv} {lv e : Nat} {t : Sg} {m : Mu} {S : List Int} {x : Option (((Nat ⊕ Option Nat) × Sg) × Nat × Nat)} (h : OUT G L r W lv e t m S x) : OUT G L r W lv (e + 1) t m S x := by
  rcases h with ⟨c, t', cc, nn, m', k, pend, ns, es, x1, x2, x3, x4, x5, x6, x7, x8⟩ | h | h
  · exact Or.inl ⟨c, t', cc, nn, m', k, pend, ns, es, x1, x2, x3, x4, x5, fun qs hq => CA_up _ _ _ (x6 qs hq), x7, x8⟩
  · exact Or.inr (Or.inl h)
  · exact Or.inr (Or.inr h)
theorem OUT_id {G : CG} {L : Ly} {r : Nat} {W : Wv} {lv e : Nat} {t : Sg} {m : Mu} {S : List Int} {x : Option (((Nat ⊕ Option Nat) × Sg) × Nat × Nat)} (h : OUT G L r W lv e t m S x) : OUT G L r W lv e t m S (bdU x fun q2 => tel q2.1 (fun e3 => xth e3 q2.2) fun x4 => some ((.inr x4, q2.2), 0, 0)) := by
  rcases h with ⟨c, t', cc, nn, m', k, pend, ns, es, x1, x2⟩ | ⟨e', t', cc, nn, K, P, m', k, x1, x2, x3⟩ | ⟨c, t', cc, nn, m', md, k, x1, x2⟩
  · exact Or.inl ⟨c, t', cc, nn, m', k, pend, ns, es, by rw [x1, te_okc]; simp, x2⟩
  · exact Or.inr (Or.inl ⟨e', t', cc, nn, K, P, m', k, by rw [x1, xt_tel x2.1], x2, x3⟩)
  · exact Or.inr (Or.inr ⟨c, t', cc, nn, m', md, k, by rw [x1, te_okc]; simp, x2⟩)
def hdS (S : List Int) : Prop := S.head? ≠ some 2 ∧ S.head? ≠ some 3
theorem kr7 {G : CG} {L : Ly} {r a w : Nat} {W : Wv} : ∀ (e : Nat) (t : Sg) (m : Mu) (S : List Int) (dp : Nat), PRE G L r a w W t m S dp → (4 * (17 - dp) + 1 ≤ e → OUT G L r W 0 e t m S (kr G e 2 (some r) 0 t)) ∧ (hdS S → 4 * (17 - dp) + 2 ≤ e → OUT G L r W 1 e t m S (kr G e 1 (some r) 0 t)) ∧ (hdS S → S.head? ≠ some 4 → 4 * (17 - dp) + 3 ≤ e → OUT G L r W 2 e t m S (kr G e 1 (some r) 1 t)) ∧ (hdS S → S.head? ≠ some 4 → 4 * (17 - dp) + 4 ≤ e → OUT G L r W 2 e t m S (kr G e 0 (some r) 0 t)) := by
  intro e
  induction e with
  | zero => intro t m S dp h; exact ⟨fun q => by omega, fun _ q => by omega, fun _ _ q => by omega, fun _ _ q => by omega⟩
  | succ d ih =>
    intro t m S dp h
    have hd3 := h.2.2.2.2.2
    have hR := h.1.1
    refine ⟨fun q => ?_, fun hS q => ?_, fun hS hS4 q => ?_, fun hS hS4 q => ?_⟩
    · show OUT G L r W 0 (d + 1) t m S (f7_part G (kr G d) (some r) t)
      unfold f7_part
      rw [ztg_e hR.1.1.1, Option.bind_some, c_is hR (j := 23) (by decide) (show (7237492 : Int) = (enc 256 (wdC 23) : Nat) by decide), Option.bind_some, w32_b2i]
      by_cases y23 : m.1 4 = 4 ∧ m.1 7 = 23
      · rw [decide_eq_true (show m.1 4 = 4 ∧ m.1 7 = ((23 : Nat) : Int) from y23), if_neg (by decide), Option.bind_some]
        exact part_not (X := fun b u => kr G d 2 b 0 u) h y23 (fun hdp t m S hp => (ih t m S (dp + 1) hp).1 (by omega))
      · rw [decide_eq_false (show ¬ (m.1 4 = 4 ∧ m.1 7 = ((23 : Nat) : Int)) from y23), if_pos (by rfl), Option.bind_some, c_isS hR (j := 8) (by decide) (show (40 : Int) = sgC 8 from rfl), Option.bind_some, w32_b2i]
        by_cases y8 : m.1 4 = 3 ∧ m.1 7 = 8
        · rw [decide_eq_true (show m.1 4 = 3 ∧ m.1 7 = ((8 : Nat) : Int) from y8), if_neg (by decide), Option.bind_some]
          exact part_open (X := fun b u => kr G d 0 b 0 u) h y8 (fun hdp t m S hp => (ih t m (8 :: S) (dp + 1) hp).2.2.2 ⟨by show some (8 : Int) ≠ some 2; decide, by show some (8 : Int) ≠ some 3; decide⟩ (by show some (8 : Int) ≠ some 4; decide) (by omega))
        · rw [decide_eq_false (show ¬ (m.1 4 = 3 ∧ m.1 7 = ((8 : Nat) : Int)) from y8), if_pos (by rfl), Option.bind_some]
          exact part_name h (by omega) y23 y8
    · show OUT G L r W 1 (d + 1) t m S (f7_many G (kr G d) (some r) ((0 : Nat) : Int) t)
      exact many7 (lv := 0) (X := fun u => kr G d 2 (some r) 0 u) (by omega) ⟨hS.1, hS.2, fun q => by omega⟩ h (fun t m S' _ hp => (ih t m S' dp hp).1 (by omega)) (fun _ _ => rfl) (fun q => by omega)
    · show OUT G L r W 2 (d + 1) t m S (f7_many G (kr G d) (some r) ((1 : Nat) : Int) t)
      refine many7 (lv := 1) (X := fun u => kr G d 1 (some r) 0 u) (by omega) ⟨hS.1, hS.2, fun _ => hS4⟩ h (fun t m S' hS' hp => (ih t m S' dp hp).2.1 ?_ (by omega)) (fun q => by omega) (fun _ _ => rfl)
      rcases hS' with rfl | rfl
      · exact hS
      · exact ⟨by show some (opL 1) ≠ some 2; decide, by show some (opL 1) ≠ some 3; decide⟩
    · show OUT G L r W 2 (d + 1) t m S (f7_cond G (kr G d) (some r) t)
      unfold f7_cond
      rw [ztg_e hR.1.1.1, Option.bind_some]
      exact OUT_id (OUT_up ((ih t m S dp h).2.2.1 hS hS4 (by omega)))
/-- a whole condition, on both sides -/
theorem cond7 {G : CG} {L : Ly} {t : Sg} {m : Mu} {r a w : Nat} {W : Wv} (h : CX G L t m r a w W) (h287 : zI t r 287 = 0) (h46 : 0 ≤ m.1 46) (hJ : m.1 46 ≤ m.1 5) : (∃ c t' cc nn m' ns, kr G 100 0 (some r) 0 t = some ((.inr (some c), t'), cc, nn) ∧ m5_cond m = some m' ∧ (CX G L t' m' r a w W ∧ fr7 r t t' ∧ zI t' r 287 = 0 ∧ mfr CS7 CA7 m m') ∧ (m'.1 46 = m.1 46 + (ns.length : Int) ∧ NDS m' (m.1 46).toNat ns ∧ (∀ i, i < (m.1 46).toNat → ndN m' i = ndN m i) ∧ m'.1 52 = m.1 52 + (ns.length : Int) ∧ m'.1 46 ≤ m'.1 5) ∧ (∀ q ∈ ns, okN (nF W) (nM W) q) ∧ CA (FN (zN t) W t') G t' 100 c ns ∧ CST (m.1 5) (m'.1 5) 0 cc nn) ∨ (∃ e t' cc nn K P m', kr G 100 0 (some r) 0 t = some ((.inl e, t'), cc, nn) ∧ TH7 r t (m.1 5) e t' cc nn K P ∧ m5_cond m = some m' ∧ MFB m m' K P) ∨ (∃ c t' cc nn m' md, kr G 100 0 (some r) 0 t = some ((.inr (some c), t'), cc, nn) ∧ DM G L r t c t' md ∧ m5_cond m = some m' ∧ MF m m' 2 (md.1 5) ∧ m.1 5 < md.1 5 ∧ (cc : Int) ≤ 20 * (md.1 5 - m.1 5) ∧ (nn : Int) ≤ 600 * (md.1 5 - m.1 5)) := by
  obtain ⟨m1, hm1⟩ : ∃ m1, m1 = ms (ms m 49 0) 50 0 := ⟨_, rfl⟩
  have F1 : mfr [46, 49, 50] CA7 m m1 := by rw [hm1]; exact mfr_ms (mfr_ms mfr_rf (by decide)) (by decide)
  have F1' : mfr CS7 CA7 m m1 := mfr_up F1 (by decide) (by decide)
  have o1 : ∀ j, j ≠ 49 → j ≠ 50 → m1.1 j = m.1 j := fun j h1 h2 => by rw [hm1, ms_1, if_neg h2, ms_1, if_neg h1]
  have a12 : m1.2 = m.2 := by rw [hm1]; rfl
  have e49 : m1.1 49 = 0 := by rw [hm1, ms_1, if_neg (by decide), ms_1, if_pos rfl]
  have e50 : m1.1 50 = 0 := by rw [hm1, ms_1, if_pos rfl]
  have hb := h.1.2.2.2.1.2.2
  have hb2 := h.1.2.2.1.2.2.2.1
  have hb3 := h.1.2.2.1.2.2.2.2.1
  have C1 : CX G L t m1 r a w W := CX_k h (R7_m h.1 F1) (by rw [o1 52 (by decide) (by decide), o1 5 (by decide) (by decide)]; exact h.2.1) fr7_rf F1'
  have P1 : PM m1 [] := ⟨by rw [e49]; rfl, trivial, by simp, by rw [o1 46 (by decide) (by decide)]; exact h46, by rw [o1 46 (by decide) (by decide)]; simp only [List.length_nil]; omega⟩
  have hPRE : PRE G L r a w W t m1 [] 0 := ⟨C1, P1, by rw [o1 46 (by decide) (by decide), o1 5 (by decide) (by decide)]; simp only [List.length_nil]; omega, h287, e50, by omega⟩
  have fuel : ∀ k : Nat, k < 10000 → ∃ n, NN = n + k := fun k hk => ⟨NN - k, by have := NN_gt (show 10000 < 100000 by decide); omega⟩
  rcases (kr7 100 t m1 [] 0 hPRE).2.2.2 ⟨by decide, by decide⟩ (by decide) (by decide) with ⟨c, t', cc, nn, m', k, pend, ns, es, x1, x2, ⟨x3, x4, x5, x6⟩, ⟨⟨w1, w2, w3⟩, ⟨w4, w5, w6⟩, ⟨w7, w8⟩, ⟨w9, w10⟩, w11⟩, x7, x8, x9, x10⟩ | ⟨e', t', cc, nn, K, P, m', k, x1, x2, x3, x4, x5⟩ | ⟨c, t', cc, nn, m', md, k, x1, x2, x8, x9, x10, x11, x12, x13⟩
  · left
    have hes : es = [] := List.length_eq_zero_iff.mp w7
    subst hes
    simp only [List.length_nil, Nat.add_zero, List.append_nil, strip] at w4 w5 w10 w1
    have hP : PM m' (pend ++ []) := by rw [List.append_nil]; exact w1
    obtain ⟨eP, z1, z2, z3, z4, z5, z6⟩ := popL_ok pend [] m' hP
    have heP : eP.length = pend.length := by rw [← z1, List.length_map]
    obtain ⟨f1, f2, f3, f4⟩ := x10
    rw [o1 5 (by decide) (by decide)] at f1 f2 f3 f4
    rw [o1 46 (by decide) (by decide)] at w4 w5 w6
    rw [o1 52 (by decide) (by decide)] at w9
    have hbb := x3.2.2.2.1.2.2
    have hbb2 := x3.2.2.1.2.2.2.1
    have hbb3 := x3.2.2.1.2.2.2.2.1
    have o : ∀ j, j ≠ 46 → j ≠ 49 → (popL m' pend).1 j = m'.1 j := fun j h1 h2 => popL_o hP j h1 h2
    have F2 : mfr CS7 CA7 m (popL m' pend) := mfr_tr F1' (mfr_tr w3 (popL_fr hP))
    have hT : (m'.1 46).toNat = (m.1 46).toNat + ns.length := by rw [w4]; omega
    refine ⟨c, t', cc, nn, popL m' pend, ns ++ eP, x1, ?_, ⟨CX_k h (R7_m x3 (mfr_up z3 (by decide) (by decide))) (by rw [o 52 (by decide) (by decide), o 5 (by decide) (by decide)]; exact x6) x4 F2, x4, by rw [x5]; exact h287, F2⟩, ⟨?_, ?_, fun i hi => ?_, ?_, ?_⟩, fun z hz => ?_, x8 eP z1, ?_⟩
    · obtain ⟨n, hn⟩ := fuel (k + 1) (by omega)
      rw [m_cond_TC, ← hm1, hn, show n + (k + 1) = (n + 1) + k by omega, TC_st x2]
      unfold TC
      rw [tw0 x3 x9 hP x7.1 (by simp) n, if_pos (by rw [z2.1]; decide), Option.bind_some]
      rfl
    · rw [z4, w4, List.length_append, heP]; omega
    · rw [NDS_app]
      refine ⟨NDS_cg ns _ (fun i j1 j2 => z6 i (by omega)) w5, ?_⟩
      rw [← hT]; exact z5
    · rw [z6 i (by omega), w6 i hi]
      exact nd_of (fun k _ => by rw [a12]) i
    · rw [o 52 (by decide) (by decide), w9, List.length_append, heP]
    · rw [o 5 (by decide) (by decide), z4]; exact w10
    · rcases List.mem_append.mp hz with hz | hz
      · exact w11 z hz
      · have : z.1 ∈ pend := by rw [← z1]; exact List.mem_map_of_mem hz
        have hh := x7.1 _ this
        exact ⟨by omega, by omega, fun h0 => by omega, fun h0 => by omega⟩
    · rw [o 5 (by decide) (by decide)]
      exact ⟨f1, by omega, f3, f4⟩
  · right; left
    rw [o1 5 (by decide) (by decide)] at x2 x5
    have hle := TH_K x2
    have hP5 := TH_P x2
    have h5p := h.1.2.2.1.2.2.1
    refine ⟨e', t', cc, nn, K, P, m', x1, x2, ?_, MFB_tr F1' x4⟩
    obtain ⟨n, hn⟩ := fuel k (by omega)
    rw [m_cond_TC, ← hm1, hn]; exact x3 n
  · right; right
    rw [o1 5 (by decide) (by decide)] at x10 x11 x12 x13
    have hbb := x2.1.2.2.2.1.2.2
    have hbb2 := x2.1.2.2.1.2.2.2.1
    have hbb3 := x2.1.2.2.1.2.2.2.2.1
    refine ⟨c, t', cc, nn, m', md, x1, x2, ?_, MF_tr F1' x9, x11, x12, x13⟩
    obtain ⟨n, hn⟩ := fuel k (by omega)
    rw [m_cond_TC, ← hm1, hn]; exact x8 n
