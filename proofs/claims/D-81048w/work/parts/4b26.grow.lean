/-! THE READER: a list of the wording grows -/
theorem LBw_add {G : CG} {r a N0 j n c : Nat} {κ : Nat → Nat} {t : Sg} {el : Nat → Nat} (hO : KO G r a N0 κ t) (hj : 240 ≤ j) (hN : N0 ≤ zN t) (h : LBw G κ t a j n el) (hn : n ≤ 200) (hc : zT t c ∈ OT ∧ c < zN t) (hc6 : zT t c ≠ 6) : ∃ l t' κ' ca na, zR t a j = some l ∧ zT t l = 6 ∧ fJ2_size G (some l) t = some (n : Int) ∧ fJ2_add G (some l) (some c) t = some ((1, t'), ca, na) ∧ ca ≤ 1 ∧ na ≤ 2 * n + 12 ∧ LBw G κ' t' a j (n + 1) (fun i => if i < n then el i else c) ∧ gro t t' ∧ (∀ q, κ q ≠ 0 → κ q ≠ j → sam t t' q ∧ κ' q = κ q) ∧ KO G r a N0 κ' t' ∧ FRo N0 t t' ∧ sam t t' c := by
  obtain ⟨l, b, h1, h2, h3, h4, h5, h6, h7⟩ := h
  obtain ⟨⟨o1, o2, o3⟩, o4, o5, o6, o7⟩ := id hO
  have hG : G0 G ≤ zN t := by omega
  obtain ⟨b', t', ⟨rr, e1, e2, e3, e4⟩, a1, a2, a3, a4, a5, a6, a7, a8⟩ := J_add (v := some c) h2 h3 hG (by omega) shr32_1 (fun x hx => by cases hx; exact hc)
  obtain ⟨⟨r1, r2⟩, r3, r4⟩ := rr
  simp only at e2 e3 e4
  cases e2
  have hbN := h2.2.2.2.2.2.2.2.1
  have hlN := h2.2.2.2.2.2.2.1
  have hb' : (b' = b ∧ κ b = j) ∨ b' = zN t := by
    rcases a5 with q | q
    · left
      have hz := a1.2.2.2.2.1
      rw [q, (a6.2 b hbN).2] at hz
      exact ⟨q, h5 (by omega)⟩
    · exact Or.inr q
  have hNl : N0 ≤ l := k25 o5 o6 l (by omega)
  have hNb : N0 ≤ b' := by
    rcases hb' with ⟨q, k⟩ | q
    · rw [q]; exact k25 o5 o6 b (by omega)
    · omega
  have kz : ∀ q, zN t ≤ q → κ q = 0 := fun q hq => by
    by_cases z : κ q = 0
    · exact z
    · have := o4 q z; omega
  obtain ⟨κ', hκ⟩ : ∃ κ' : Nat → Nat, κ' = fun q => if q = b' then j else κ q := ⟨_, rfl⟩
  have k1 : κ' b' = j := by rw [hκ]; exact if_pos rfl
  have k2 : ∀ q, q ≠ b' → κ' q = κ q := fun q hq => by rw [hκ]; exact if_neg hq
  have kne : ∀ q, κ q ≠ 0 → κ q ≠ j → q ≠ b' ∧ q ≠ l := fun q q1 q2 => by
    refine ⟨fun e => ?_, fun e => q2 (by rw [e]; exact h4)⟩
    rcases hb' with ⟨z, k⟩ | z
    · exact q2 (by rw [e, z]; exact k)
    · exact q1 (kz q (by omega))
  have hl' : κ' l = j := by
    by_cases z : l = b'
    · rw [z]; exact k1
    · rw [k2 l z]; exact h4
  have hN' := a6.1
  have hbN' := a1.2.2.2.2.2.2.2.1
  have ab : a ≠ b' ∧ a ≠ l := kne a (by omega) (by omega)
  have hrb : r ≠ b' ∧ r ≠ l := kne r (by omega) (by omega)
  have sa := a8 a ab.2 ab.1
  have hzb : zL t' b' ≠ 0 := by have := a1.2.2.2.2.1; omega
  refine ⟨l, t', κ', r3, r4, h1, h2.1, J_size h2, e1, e3, e4, ⟨l, b', by rw [sa.2.2.2.1]; exact h1, a1, a2, hl', fun _ => k1, fun q => absurd q hzb, fun i hi => ?_⟩, a6, fun q q1 q2 => ⟨a8 q (kne q q1 q2).2 (kne q q1 q2).1, k2 q (kne q q1 q2).1⟩, ⟨⟨by rw [k2 a ab.1]; exact o1, by rw [sa.1]; exact o2, by rw [k2 r hrb.1]; exact o3⟩, fun q hq => ?_, fun q hq => ?_, fun q hq => by rw [k2 q (by omega)]; exact o6 q hq, o7⟩, ⟨a6, fun q hq => a8 q (by omega) (by omega)⟩, ?_⟩
  · show zB t' b' i = some (if i < n then el i else c)
    by_cases z : i < n
    · rw [if_pos z, a3 i z, h7 i z]
    · rw [if_neg z, show i = n by omega, a4]
  · by_cases z : q = b'
    · rw [z]; exact hbN'
    · rw [k2 q z] at hq
      have := o4 q hq; omega
  · by_cases z : q = b'
    · rw [z]; exact Or.inr hNb
    · rw [k2 q z] at hq; exact o5 q hq
  · refine a8 c (fun e => ?_) (fun e => ?_)
    · rw [e] at hc6; exact hc6 h2.1
    · rcases hb' with ⟨z, k⟩ | z
      · rw [e, z, h2.2.2.2.1] at hc; exact absurd hc.1 (by decide)
      · omega
