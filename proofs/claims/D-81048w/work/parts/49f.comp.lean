theorem c_comp {G : CG} {L : Ly} {u : Sg} {W V : Wv} {wa va : Nat} (hM : WM W) (hV : WM V) (hA : WA G L u wa W) (hB : WA G L u va V) : f6_isComparable G (some wa) (some va) u = some (b2i (cmpB W V)) := by
  obtain ⟨⟨a1, a2⟩, ⟨l, el, a3, a4, a5⟩, -⟩ := hA
  obtain ⟨⟨b1, b2⟩, ⟨l', el', b3, b4, b5⟩, -⟩ := hB
  have w8 := (nF_e hM).2
  have v8 := (nF_e hV).2
  unfold f6_isComparable
  rw [gfR_v a2 a3, Option.bind_some, ztg_e (lf_tag a4), Option.bind_some, lf_size a4, Option.bind_some, gfR_v b2 b3, Option.bind_some, ztg_e (lf_tag b4), Option.bind_some, lf_size b4, Option.bind_some, w32_n (by omega), w32_n (by omega)]
  by_cases hn : nF W = nF V
  · rw [if_pos (by omega)]
    have key := loop_ind (fun q (k : Nat) => f6_isComparable_l25 G (some wa) (some va) u q (k : Int)) (fun k => nF W - k) (fun k => k ≤ nF W ∧ ∀ j, j < k → likeP W V j) (fun _ r => (r = .inl () ∧ ¬ cmpP W V) ∨ (r = .inr () ∧ cmpP W V)) (by
      rintro q k ⟨g1, g2⟩ ih
      show ok (f6_isComparable_l25 G (some wa) (some va) u (q + 1) (k : Int)) _
      unfold f6_isComparable_l25
      refine ok_eq (gfR_v a2 a3) (ok_eq (ztg_e (lf_tag a4)) (ok_eq (lf_size a4) ?_))
      rw [w32_n (by omega), w32_n (by omega)]
      refine ok_ite (fun hc => ok_some (Or.inr ⟨rfl, hn, fun f hf => g2 f (by omega)⟩)) (fun hc => ?_)
      have hk : k < nF W := by omega
      have fa := a5 k hk
      have fb := b5 k (by omega)
      obtain ⟨r, er, hr⟩ := c_like (G := G) hM hV hk (by omega) fa fb
      refine ok_eq (gfR_v a2 a3) (ok_eq (ztg_e (lf_tag a4)) (ok_eq (lf_get a4 k rfl hk) (ok_eq (zcast_1 fa.2.1) (ok_eq (gfR_v b2 b3) (ok_eq (ztg_e (lf_tag b4)) (ok_eq (lf_get b4 k rfl (by omega)) (ok_eq (zcast_1 fb.2.1) (ok_eq (ztg_e fa.2.1) (ok_eq er ?_)))))))))
      rw [w32_b2i]
      refine ok_ite (fun hz => ok_some (Or.inl ⟨rfl, fun z => ?_⟩)) (fun hz => ih (k + 1) ⟨by omega, fun j hj => ?_⟩ (by omega))
      · have := hr.mpr (z.2 k hk)
        rw [b2i_0.mp hz] at this; cases this
      · by_cases hjk : j = k
        · rw [hjk]; exact hr.mp (b2i_n1 hz)
        · exact g2 j (by omega)) NN 0 ⟨Nat.zero_le _, fun j hj => absurd hj (Nat.not_lt_zero _)⟩ (NN_gt (by omega))
    obtain ⟨r, e, hr⟩ := key
    have e' : f6_isComparable_l25 G (some wa) (some va) u NN 0 = some r := e
    rw [e', Option.bind_some]
    rcases hr with ⟨rfl, hr⟩ | ⟨rfl, hr⟩
    · rw [← cmpB_i (b := false) (by simp [hr])]; rfl
    · rw [← cmpB_i (b := true) (by simp [hr])]; rfl
  · rw [if_neg (by omega), ← cmpB_i (b := false) ⟨(fun z => absurd z (by decide)), (fun z => absurd z.1 hn)⟩]; rfl
/-- a wording's names -/
def nmO (W : Wv) : Prop := ∀ f, f < nF W → (w64 (W 13 f) = W 13 f) ∧ ∀ k : Nat, (k : Int) < W 15 f → w64 (W 16 (6 * f + k)) = W 16 (6 * f + k)
theorem nmO_of {G : CG} {L : Ly} {u : Sg} {W : Wv} {wa : Nat} (hA : WA G L u wa W) : nmO W := by
  obtain ⟨⟨a1, a2⟩, ⟨l, el, a3, a4, a5⟩, -⟩ := hA
  intro f hf
  obtain ⟨x1, x2, x3, x4, x5, x6, x7, c, x8, x9, x10⟩ := a5 f hf
  exact ⟨(NM_iff x3 x3).2.1, fun k hk => (NM_iff (x10 k hk) (x10 k hk)).2.1⟩
theorem m_comp {m : Mu} {w v : Nat} {W V : Wv} (hw : slc m w = W) (hv : slc m v = V) (hw13 : w ≤ 13) (hv13 : v ≤ 13) (hM : WM W) (hV : WM V) (nW : nmO W) (nV : nmO V) : m5_isComparable w v m = some (b2i (cmpB W V)) := by
  obtain ⟨w0, w8⟩ := nF_e hM
  obtain ⟨v0, v8⟩ := nF_e hV
  have r12 : ∀ x : Nat, x ≤ 13 → mald m 12 14 (x : Int) = some (slc m x 12 0) := fun x hx => m_sl (w := x) (k := 12) (j := 0) (by decide) (by show (x : Int) = ((1 * x + 0 : Nat) : Int); omega) (by show 1 * x + 0 < 14; omega) (by omega)
  have r8 : ∀ x f c : Nat, x ≤ 13 → f < 8 → c = 13 ∨ c = 14 ∨ c = 15 ∨ c = 17 ∨ c = 18 → mald m c 112 (8 * (x : Int) + f) = some (slc m x c f) := by
    intro x f c hx hf hc
    rcases hc with rfl | rfl | rfl | rfl | rfl <;> exact m_sl (w := x) (j := f) (by show f < 8; omega) (by show (8 : Int) * x + f = ((8 * x + f : Nat) : Int); omega) (by show 8 * x + f < 112; omega) (by omega)
  -- the names of one fact
  have inner : ∀ f, f < nF W → f < nF V → W 15 f = V 15 f → W 14 f = V 14 f → ∃ r : Bool, m5_isComparable_l135 w v f (8 * (w : Int) + f) (8 * (v : Int) + f) m NN 1 0 = some (b2i r) ∧ (r = true ↔ ∀ k : Nat, (k : Int) < W 15 f → W 16 (6 * f + k) = V 16 (6 * f + k)) := by
    intro f hf hf2 h15 h14
    obtain ⟨q1, q2, q3, q4, q5, -⟩ := hM.2.1 f hf
    obtain ⟨x14, x15, -, -⟩ := lo_w hM hf
    have key := loop_ind (fun q (t : Bool × Nat) => m5_isComparable_l135 w v f (8 * (w : Int) + f) (8 * (v : Int) + f) m q (b2i t.1) (t.2 : Int)) (fun t => 7 - t.2) (fun t => (t.2 : Int) ≤ W 15 f ∧ (t.1 = true → ∀ k : Nat, k < t.2 → W 16 (6 * f + k) = V 16 (6 * f + k)) ∧ (t.1 = false → ¬ ∀ k : Nat, (k : Int) < W 15 f → W 16 (6 * f + k) = V 16 (6 * f + k))) (fun _ x => ∃ r : Bool, x = b2i r ∧ (r = true ↔ ∀ k : Nat, (k : Int) < W 15 f → W 16 (6 * f + k) = V 16 (6 * f + k))) (by
      rintro q ⟨b, k⟩ ⟨g1, g2, g3⟩ ih
      simp only at g1 g2 g3
      show ok (m5_isComparable_l135 w v f (8 * (w : Int) + f) (8 * (v : Int) + f) m (q + 1) (b2i b) (k : Int)) _
      unfold m5_isComparable_l135
      rw [w32_b2i]
      cases b
      · exact ok_pos rfl (ok_some ⟨false, rfl, by simp [g3 rfl]⟩)
      refine ok_neg (by decide) (ok_eq (r8 w f 14 hw13 (by omega) (by simp)) ?_)
      rw [hw, x14]
      refine ok_ite (fun h1 => ?_) (fun h1 => ok_some ⟨true, rfl, ⟨fun _ j hj => by have := q5 h1; omega, fun _ => rfl⟩⟩)
      refine ok_eq (r8 w f 15 hw13 (by omega) (by simp)) ?_
      rw [hw, x15, w32_n (by omega)]
      refine ok_ite (fun hc => ok_some ⟨true, rfl, ⟨fun _ j hj => g2 rfl j (by omega), fun _ => rfl⟩⟩) (fun hc => ?_)
      refine ok_eq (m_sl (w := w) (k := 16) (j := 6 * f + k) (by show 6 * f + k < 48; omega) (by show (6 : Int) * (8 * w + f) + k = ((48 * w + (6 * f + k) : Nat) : Int); omega) (by show 48 * w + (6 * f + k) < 672; omega) (by omega)) ?_
      refine ok_eq (m_sl (w := v) (k := 16) (j := 6 * f + k) (by show 6 * f + k < 48; omega) (by show (6 : Int) * (8 * v + f) + k = ((48 * v + (6 * f + k) : Nat) : Int); omega) (by show 48 * v + (6 * f + k) < 672; omega) (by omega)) ?_
      rw [hw, hv, (nW f hf).2 k (by omega), (nV f hf2).2 k (by omega)]
      refine ok_ite (fun he => ih (true, k + 1) ⟨by show ((k + 1 : Nat) : Int) ≤ W 15 f; omega, fun _ j hj => ?_, (fun z => absurd (show true = false from z) (by decide))⟩ (by show 7 - (k + 1) < 7 - k; omega)) (fun he => ih (false, k + 1) ⟨by show ((k + 1 : Nat) : Int) ≤ W 15 f; omega, (fun z => absurd (show false = true from z) (by decide)), fun _ z => he (z k (by omega))⟩ (by show 7 - (k + 1) < 7 - k; omega))
      by_cases hjk : j = k
      · rw [hjk]; exact he
      · exact g2 rfl j (by have hj : j < k + 1 := hj; omega)) NN (true, 0) ⟨by show ((0 : Nat) : Int) ≤ W 15 f; omega, fun _ k hk => absurd hk (Nat.not_lt_zero _), fun z => absurd (show true = false from z) (by decide)⟩ (NN_gt (by show 7 - 0 < 100000; omega))
    obtain ⟨x, e, r, rfl, hr⟩ := key
    exact ⟨r, e, hr⟩
  have outer : ∀ b0 : Bool, (b0 = true ↔ nF W = nF V) → m5_isComparable_b20 w v (b2i b0) m = some (b2i (cmpB W V)) := by
    intro b0 hb0
    unfold m5_isComparable_b20
    have key := loop_ind (fun q (t : Bool × Nat) => m5_isComparable_l24 w v m q (b2i t.1) (t.2 : Int)) (fun t => nF W - t.2) (fun t => t.2 ≤ nF W ∧ (t.1 = true → nF W = nF V ∧ ∀ k, k < t.2 → likeP W V k) ∧ (t.1 = false → ¬ cmpP W V)) (fun _ x => x = b2i (cmpB W V)) (by
      rintro q ⟨b, f⟩ ⟨g1, g2, g3⟩ ih
      simp only at g1 g2 g3
      show ok (m5_isComparable_l24 w v m (q + 1) (b2i b) (f : Int)) _
      unfold m5_isComparable_l24
      refine ok_eq (r12 w hw13) ?_
      rw [hw, w0, w32_n (by omega), w32_n (by omega), w32_b2i]
      refine ok_ite (fun hc => ok_some ?_) (fun hc => ?_)
      · cases b
        · rw [← cmpB_i (b := false) (by simp [g3 rfl])]
        · rw [← cmpB_i (b := true)]
          exact ⟨fun _ => ⟨(g2 rfl).1, fun k hk => (g2 rfl).2 k (by omega)⟩, fun _ => rfl⟩
      · cases b
        · refine ok_pos rfl (ok_some ?_)
          rw [← cmpB_i (b := false) (by simp [g3 rfl])]
        have hf : f < nF W := by omega
        have hf2 : f < nF V := by have := (g2 rfl).1; omega
        obtain ⟨x14, x15, x17, x18⟩ := lo_w hM hf
        obtain ⟨y14, y15, y17, y18⟩ := lo_w hV hf2
        have bad : ¬ likeP W V f → ok (m5_isComparable_b130 (m5_isComparable_l24 w v m q) w v f (8 * (w : Int) + f) (8 * (v : Int) + f) m) (fun x => x = b2i (cmpB W V)) := by
          intro hl
          unfold m5_isComparable_b130 m5_isComparable_b131
          have e0 : m5_isComparable_l135 w v f (8 * (w : Int) + f) (8 * (v : Int) + f) m NN 0 0 = some 0 := by
            obtain ⟨N, hN⟩ : ∃ N, NN = N + 1 := ⟨NN - 1, by have := NN_ge; omega⟩
            rw [hN]; unfold m5_isComparable_l135; rw [if_pos (by decide)]
          refine ok_eq e0 ?_
          exact ih (false, f + 1) ⟨by show f + 1 ≤ nF W; omega, (fun z => absurd (show false = true from z) (by decide)), fun _ z => hl (z.2 f hf)⟩ (by show nF W - (f + 1) < nF W - f; omega)
        refine ok_neg (by decide) (ok_eq (r8 w f 13 hw13 (by omega) (by simp)) (ok_eq (r8 v f 13 hv13 (by omega) (by simp)) ?_))
        rw [hw, hv, (nW f hf).1, (nV f hf2).1]
        refine ok_ite (fun h13 => ?_) (fun h13 => bad (fun z => h13 z.1))
        refine ok_eq (r8 w f 14 hw13 (by omega) (by simp)) (ok_eq (r8 v f 14 hv13 (by omega) (by simp)) ?_)
        rw [hw, hv, x14, y14]
        refine ok_ite (fun h14 => ?_) (fun h14 => bad (fun z => h14 z.2.1))
        refine ok_eq (r8 w f 17 hw13 (by omega) (by simp)) (ok_eq (r8 v f 17 hv13 (by omega) (by simp)) ?_)
        rw [hw, hv, x17, y17]
        refine ok_ite (fun h17 => ?_) (fun h17 => bad (fun z => h17 z.2.2.1))
        refine ok_eq (r8 w f 18 hw13 (by omega) (by simp)) (ok_eq (r8 v f 18 hv13 (by omega) (by simp)) ?_)
        rw [hw, hv, x18, y18]
        refine ok_ite (fun h18 => ?_) (fun h18 => bad (fun z => h18 z.2.2.2.1))
        obtain ⟨r, er, hr⟩ := inner f hf hf2 (f15_e hM hV hf hf2 h14 h17 h18) h14
        unfold m5_isComparable_b131
        refine ok_eq er ?_
        refine ih (r, f + 1) ⟨by show f + 1 ≤ nF W; omega, fun z => ⟨(g2 rfl).1, fun k hk => ?_⟩, fun z z2 => ?_⟩ (by show nF W - (f + 1) < nF W - f; omega)
        · by_cases hkf : k = f
          · rw [hkf]; exact ⟨h13, h14, h17, h18, hr.mp z⟩
          · exact (g2 rfl).2 k (by have hk : k < f + 1 := hk; omega)
        · have := hr.mpr (z2.2 f hf).2.2.2.2
          have z : r = false := z
          rw [z] at this; cases this) NN (b0, 0) ⟨Nat.zero_le _, fun z => ⟨hb0.mp z, fun k hk => absurd hk (Nat.not_lt_zero _)⟩, fun z z2 => by have := hb0.mpr z2.1; have z : b0 = false := z; rw [z] at this; cases this⟩ (NN_gt (by show nF W - 0 < 100000; omega))
    obtain ⟨x, e, rfl⟩ := key
    have e' : m5_isComparable_l24 w v m NN (b2i b0) 0 = some (b2i (cmpB W V)) := e
    rw [e', Option.bind_some, w32_b2i, if_pos (by cases cmpB W V <;> simp [b2i])]
  unfold m5_isComparable
  rw [r12 w hw13, Option.bind_some, r12 v hv13, Option.bind_some, hw, hv, w0, v0, w32_n (by omega), w32_n (by omega)]
  by_cases hn : nF W = nF V
  · rw [if_pos (by omega)]; exact outer true ⟨fun _ => hn, fun _ => rfl⟩
  · rw [if_neg (by omega)]; exact outer false ⟨(fun z => absurd z (by decide)), (fun z => absurd z hn)⟩
