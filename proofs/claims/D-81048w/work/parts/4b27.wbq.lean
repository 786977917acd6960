/-! THE READER: the wording with one clause more -/
theorem WB_q {G : CG} {r a N0 : Nat} {κ κ' : Nat → Nat} {t t' : Sg} {m m' : Mu} {W : Wv} {el' : Nat → Nat} (h : WB G r a N0 κ t m W) (hg : gro t t') (hk : ∀ q, κ q ≠ 0 → κ q ≠ 243 → κ q ≠ 3 → sam t t' q ∧ κ' q = κ q) (hO : KO G r a N0 κ' t') (hs : slc m' 0 = slc m 0) (h56 : 0 ≤ m'.1 56 ∧ m'.1 56 ≤ 24) (hn : m.1 46 ≤ m'.1 46 ∧ ∀ k : Nat, (k : Int) < m.1 46 → ndN m' k = ndN m k) (hL : LBw G κ' t' a 243 (m'.1 56).toNat el') (hq : ∀ k, k < (m'.1 56).toNat → QB G κ' t' m' W (el' k) k) : WB G r a N0 κ' t' m' W := by
  obtain ⟨⟨⟨o1, o2, o3⟩, o4, o5, o6, o7⟩, ⟨b1, b2, b3, b4, b5, b6, b7, b8, b9, b10⟩, ⟨e1, f1, f2⟩, ⟨e2, g1, g2⟩, ⟨e3, m1, m2⟩, -, ⟨e5, p1, p2⟩, ⟨s1, s2, s3, s4, d, s5, s6, s7, s8, s9⟩, u1, e6, u2⟩ := h
  have kf : KF κ κ' t t' := ⟨hg, fun q hq => by
    obtain ⟨s, e⟩ := hk q (by rw [hq]; decide) (by rw [hq]; decide) (by rw [hq]; decide)
    exact ⟨s, by rw [e]; exact hq⟩⟩
  have sa := (hk a (by rw [o1]; decide) (by rw [o1]; decide) (by rw [o1]; decide)).1
  obtain ⟨sd, kd⟩ := hk d (by rw [s6]; decide) (by rw [s6]; decide) (by rw [s6]; decide)
  have lb : ∀ {j n : Nat} {el : Nat → Nat}, (j ≠ 0 ∧ j ≠ 243 ∧ j ≠ 3) → LBw G κ t a j n el → LBw G κ' t' a j n el := fun {j n el} j1 hl => LBw_r hg (fun q hq => hk q (by rw [hq]; exact j1.1) (by rw [hq]; exact j1.2.1) (by rw [hq]; exact j1.2.2)) (fun q hq => (kf.2 q (o6 q hq)).1) (by rw [sa.2.2.2.1]) hl
  refine ⟨hO, ⟨by rw [hs]; exact b1, b2, b3, b4, b5, b6, b7, h56.1, h56.2, b10⟩, ⟨e1, lb (by decide) f1, fun f hf => FB_k kf ⟨rfl, rfl, rfl, rfl, rfl, fun _ _ => rfl⟩ (f2 f hf)⟩, ⟨e2, lb (by decide) g1, fun n hn => ?_⟩, ⟨e3, lb (by decide) m1, fun n hn' => CB_k kf (Nat.le_refl _) (fun _ _ => rfl) (Int.le_refl _) hn (m2 n hn')⟩, ⟨el', hL, hq⟩, ⟨e5, lb (by decide) p1, fun n hn' => PB_k kf (Nat.le_refl _) (Nat.le_refl _) (fun _ _ => rfl) hn ⟨rfl, rfl, rfl, rfl⟩ (p2 n hn')⟩, ⟨by rw [sa.2.2.1]; exact s1, by rw [sa.2.2.1]; exact s2, s3, s4, d, by rw [sa.2.2.2.1]; exact s5, by rw [kd]; exact s6, by rw [sd.1]; exact s7, by rw [sd.2.1]; exact s8, by rw [sd.2.2.2.2.1]; exact s9⟩, by rw [sa.2.2.1]; exact u1, e6, lb (by decide) u2⟩
  obtain ⟨z1, z2, z3⟩ := g2 n hn
  obtain ⟨s, e⟩ := kf.2 (e2 n) z1
  exact ⟨e, by rw [s.1]; exact z2, by rw [s.2.2.1]; exact z3⟩
/-- the cells from N1 on are frozen -/
def fzn (κ : Nat → Nat) (N1 N2 : Nat) : Nat → Nat := fun q => if N1 ≤ q ∧ q < N2 then 1 else κ q
theorem fzn_o {κ : Nat → Nat} {N1 N2 q : Nat} (h : ¬ (N1 ≤ q ∧ q < N2)) : fzn κ N1 N2 q = κ q := if_neg h
theorem fzn_n {κ : Nat → Nat} {N1 N2 q : Nat} (h : N1 ≤ q ∧ q < N2) : fzn κ N1 N2 q = 1 := if_pos h
/-- new cells behind reading are frozen -/
theorem KO_fzn {G : CG} {r a N0 : Nat} {κ : Nat → Nat} {t t' : Sg} (h : KO G r a N0 κ t) (k : fr7 r t t') : KO G r a N0 (fzn κ (zN t) (zN t')) t' ∧ KK κ (fzn κ (zN t) (zN t')) t t' := by
  obtain ⟨⟨o1, o2, o3⟩, o4, o5, o6, o7⟩ := id h
  have hN := k.1.1
  have old : ∀ q, κ q ≠ 0 → fzn κ (zN t) (zN t') q = κ q := fun q hq => fzn_o (by have := o4 q hq; omega)
  refine ⟨⟨⟨by rw [old a (by rw [o1]; decide)]; exact o1, (KO_7 h k).1.2.1, by rw [old r (by rw [o3]; decide)]; exact o3⟩, fun q hq => ?_, fun q hq => ?_, fun q hq => ?_, o7⟩, ⟨k.1, fun q h1 h2 => ⟨(KK_7 h k).2 q h1 h2 |>.1, old q h1⟩⟩⟩
  · by_cases z : zN t ≤ q ∧ q < zN t'
    · exact z.2
    · rw [fzn_o z] at hq
      have := o4 q hq; omega
  · by_cases z : zN t ≤ q ∧ q < zN t'
    · have := k25 o5 o6 a (by omega); have := o4 a (by omega); right; omega
    · rw [fzn_o z] at hq; exact o5 q hq
  · rw [old q (by rw [o6 q hq]; decide)]; exact o6 q hq
/-- a condition that was read, as CB -/
theorem FN_FK {κ : Nat → Nat} {W : Wv} {t t' : Sg} : ∀ q, FN (zN t) W t' q → FK (fzn κ (zN t) (zN t')) W t' q := fun q h => ⟨fzn_n ⟨h.1, h.2.1⟩, h.2.2⟩
theorem CB_new {G : CG} {κ : Nat → Nat} {t t' : Sg} {m m' : Mu} {W : Wv} {c : Nat} {ns : List Nd} (h0 : 0 ≤ m.1 46) (h46 : m'.1 46 = m.1 46 + (ns.length : Int)) (hn : NDS m' (m.1 46).toNat ns) (hc : CA (FN (zN t) W t') G t' 100 c ns) (hq : ∀ q ∈ ns, okN (nF W) (nM W) q) : CB G (fzn κ (zN t) (zN t')) t' m' W (nM W) c (m.1 46) (m'.1 46) := by
  have e : sgNw m' (m.1 46) (m'.1 46) = ns := by
    rw [NDS_get ns _ hn]
    unfold sgNw
    rw [show (m'.1 46).toNat - (m.1 46).toNat = ns.length by omega]
  have hl : 0 < ns.length := by
    cases ns with
    | nil =>
      have := CA_isC _ _ _ hc 0
      simp [hgt] at this
    | cons q t => simp
  exact ⟨⟨h0, by omega, Int.le_refl _⟩, by rw [e]; exact CA_mono FN_FK hc, by rw [e]; exact hq⟩
