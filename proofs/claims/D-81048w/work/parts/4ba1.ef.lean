/-! ENDORSE: the loop: outcomes, small things -/
theorem lsm_up {f f' : Nat → Int} {n i : Nat} {d : Int} (h : ∀ k, k < n → k ≠ i → f' k = f k) (hi : i < n) (hd : f' i = f i + d) : lsm f' n = lsm f n + d := by
  induction n with
  | zero => omega
  | succ n ih =>
    rw [lsm_s, lsm_s]
    by_cases z : i = n
    · subst z
      rw [lsm_cg (fun k hk => h k (by omega) (by omega)), hd]; omega
    · rw [ih (fun k hk => h k (by omega)) (by omega), h n (by omega) (by omega)]; omega
/-- the numbers between two items -/
def EN (G : CG) (L : Ly) (r a v : Nat) (W : Wv) (t : Sg) (m : Mu) (nc : Nat) : Prop := (CX G L t m r a v W ∧ zI t r 287 = 0) ∧ (m.1 46 = m.1 52 ∧ 0 ≤ m.1 46 ∧ m.1 46 ≤ m.1 5) ∧ (m.1 56 = (nc : Int) ∧ 3 * (nc : Int) ≤ m.1 5)
theorem EN_n {G : CG} {L : Ly} {r a v : Nat} {W : Wv} {t t' : Sg} {m m' : Mu} {nc : Nat} (h : EN G L r a v W t m nc) (k : NX7 G L r t m t' m') : EN G L r a v W t' m' nc := by
  obtain ⟨⟨h1, h2⟩, ⟨h3, h4, h5⟩, h6, h7⟩ := h
  obtain ⟨k1, k2, k3, k4, k5, k6, k7, k8⟩ := k
  refine ⟨⟨CX_k h1 k1 k2 k3 ⟨fun k hk => k8 k (by simp only [CS7, List.mem_cons, List.not_mem_nil, or_false] at hk; omega), fun k _ => by rw [k7]⟩, by rw [k5 287 (by omega)]; exact h2⟩, ⟨by rw [k8 46 (by omega), k8 52 (by omega)]; exact h3, by rw [k8 46 (by omega)]; exact h4, by rw [k8 46 (by omega)]; omega⟩, by rw [k8 56 (by omega)]; exact h6, by omega⟩
/-- cells that the reader does not see have changed; the twin's numbers 57, 58 -/
theorem EN_o {G : CG} {L : Ly} {r a v N2 : Nat} {W : Wv} {t2 t t' : Sg} {m m' : Mu} {nc : Nat} (h : EN G L r a v W t m nc) (hg : gro t t') (hs : ∀ q, (q < N2 ∨ q = r) → sam t t' q) (hL : LK (fun q => q < N2) t2 a W) (hg2 : gro t2 t' ∧ ∀ q, q < N2 → sam t2 t' q) (hr : N2 ≤ r) (h3 : L.1 3 < N2 ∧ L.1 100 < N2 ∧ L.1 101 < N2 ∧ G0 G ≤ N2) (e1 : m'.1 = m.1) (e0 : m'.2 0 = m.2 0) (e11 : m'.2 1 = m.2 1) (hsl : slc m' v = slc m v) : EN G L r a v W t' m' nc := by
  obtain ⟨⟨⟨h1, h2, ⟨h3', h4⟩, ⟨h5, h6, h7⟩, h8⟩, h9⟩, h10, h11⟩ := h
  have hR := R7_a (R7_z h1 (u2 := t') (fun q hq => by
    rcases hq with rfl | rfl | rfl | rfl
    · exact hs _ (Or.inr rfl)
    · exact hs _ (Or.inl h3.1)
    · exact hs _ (Or.inl h3.2.1)
    · exact hs _ (Or.inl h3.2.2.1)) hg) e1 e0 e11
  have sr := hs r (Or.inr rfl)
  have hrN := hR.2.1.2.1
  exact ⟨⟨⟨hR, by rw [e1]; exact h2, ⟨LK_k (fun q hq => ⟨hg2.2 q hq, by have : q < N2 := hq; omega, by have : q < N2 := hq; omega⟩) hg2.1 hL, by rw [sr.2.2.2.1]; exact h4⟩, ⟨by rw [hsl]; exact h5, h6, by rw [e1]; exact h7⟩, St_s h8 (fun q hq => hs q (Or.inl (by omega)))⟩, by rw [sr.2.2.1]; exact h9⟩, by rw [e1]; exact h10, by rw [e1]; exact h11⟩
/-- the end of an item that threw: the twin's frame -/
def MIe (m m' : Mu) : Prop := mfr SI7 (57 :: 58 :: AI7) m m' ∧ ∀ w, 1 ≤ w → slc m' w = slc m w
theorem MIe_rf {m : Mu} : MIe m m := ⟨mfr_rf, fun _ _ => rfl⟩
theorem MIe_tr {a b c : Mu} (h : MIe a b) (k : MIe b c) : MIe a c := ⟨mfr_tr h.1 k.1, fun w hw => (k.2 w hw).trans (h.2 w hw)⟩
theorem MIe_I {m m' : Mu} (h : MI m m') : MIe m m' := ⟨mfr_up h.1 (fun k hk => hk) (fun k hk => List.mem_cons_of_mem _ (List.mem_cons_of_mem _ hk)), h.2⟩
theorem MIe_7 {m m' : Mu} (h : mfr CS7 CA7 m m') : MIe m m' := MIe_I (MI_7 h)
theorem MIe_ma {m : Mu} {k i : Nat} {v : Int} (hk : k = 57 ∨ k = 58) : MIe m (ma m k i v) := by
  refine ⟨mfr_ma mfr_rf (by rcases hk with rfl | rfl <;> decide), fun w _ => slc_fr (S := []) (T := [57, 58]) (mfr_ma mfr_rf (by rcases hk with rfl | rfl <;> decide)) (by decide)⟩
/-- the twin behind a fault, before it looks again -/
def MFe (m m' : Mu) (K P : Int) : Prop := ((m'.1 8 = K ∧ m'.1 9 = P) ∨ (K = 1 ∧ m'.1 8 = 0 ∧ m'.1 4 = 5 ∧ m'.1 5 = P)) ∧ MIe m m'
theorem MFe_I {m m1 m' : Mu} {K P : Int} (h : MIe m m1) (k : MFI m1 m' K P) : MFe m m' K P := ⟨k.1, MIe_tr h (MIe_I k.2)⟩
theorem MFe_B {m m1 m' : Mu} {K P : Int} (h : MIe m m1) (k : MFB m1 m' K P) : MFe m m' K P := MFe_I h (MFI_B k)
/-! what the loop's end makes of an outcome -/
noncomputable def XS (G : CG) (r : Nat) (K : Sg → Option (((Nat ⊕ Unit) × Sg) × Nat × Nat)) (X : Option (((Nat × Sg) ⊕ ((Sg) ⊕ (Sg) ⊕ (Sg) ⊕ (Sg))) × Nat × Nat)) : Option (((Nat ⊕ Unit) × Sg) × Nat × Nat) := bdU X (Sum.elim (fun e31 => xth e31.1 e31.2) (Sum.elim (fun q7 => f7_endorsement_b119 G (some r) q7) (Sum.elim (fun q8 => bdU (zNew q8 9 8) fun q9 => (gfI q9.2 8 282 (some r)).bind fun x10 => (f8_init G (some q9.1) 2 x10 q9.2).bind fun u11 => xth q9.1 u11) (Sum.elim (fun q12 => bdU (zNew q12 9 8) fun q13 => (gfI q13.2 8 282 (some r)).bind fun x14 => (f8_init G (some q13.1) 2 x14 q13.2).bind fun u15 => xth q13.1 u15) K))))
theorem bdU_map {α β : Type} {X : Option (α × Nat × Nat)} {k : α → Option (β × Nat × Nat)} {c n : Nat} : bdU (X.map fun r => (r.1, r.2.1 + c, r.2.2 + n)) k = (bdU X k).map fun r => (r.1, r.2.1 + c, r.2.2 + n) := by
  cases X with
  | none => rfl
  | some x =>
    obtain ⟨x, c', n'⟩ := x
    show bdU (some (x, c' + c, n' + n)) k = (bdU (some (x, c', n')) k).map _
    rw [bdU_e, bdU_e]
    cases k x with
    | none => rfl
    | some y =>
      obtain ⟨y, c'', n''⟩ := y
      show some (y, c'' + (c' + c), n'' + (n' + n)) = some (y, c'' + c' + c, n'' + n' + n)
      rw [Nat.add_assoc, Nat.add_assoc]
theorem XS_m {G : CG} {r : Nat} {K : Sg → Option (((Nat ⊕ Unit) × Sg) × Nat × Nat)} {X : Option (((Nat × Sg) ⊕ ((Sg) ⊕ (Sg) ⊕ (Sg) ⊕ (Sg))) × Nat × Nat)} {c n : Nat} : XS G r K (X.map fun r => (r.1, r.2.1 + c, r.2.2 + n)) = (XS G r K X).map fun r => (r.1, r.2.1 + c, r.2.2 + n) := bdU_map
theorem XS_t {α : Type} {G : CG} {r : Nat} {K : Sg → Option (((Nat ⊕ Unit) × Sg) × Nat × Nat)} {e c n : Nat} {u : Sg} {F : (Nat ⊕ α) × Sg → α → Option (((Nat × Sg) ⊕ ((Sg) ⊕ (Sg) ⊕ (Sg) ⊕ (Sg))) × Nat × Nat)} (h : zT u e = 9) : XS G r K (bdU (some (((.inl e : Nat ⊕ α), u), c, n)) fun q => tel q.1 (fun e3 => some (.inl (e3, q.2), 0, 0)) fun x => F q x) = some ((.inl e, u), c, n) := by
  rw [bdU_e]
  show XS G r K (some (Sum.inl (e, u), 0 + c, 0 + n)) = _
  unfold XS
  rw [bdU_e]
  show Option.map _ (xth e u) = _
  unfold xth
  rw [if_pos h]
  show some ((Sum.inl e, u), 0 + (0 + c), 0 + (0 + n)) = _
  simp
theorem XS_1 {G : CG} {L : Ly} {t : Sg} {m : Mu} {r : Nat} (h : R7 G L t m r) : ∃ t', (∀ K : Sg → Option (((Nat ⊕ Unit) × Sg) × Nat × Nat), XS G r K (some (.inr (.inl t), 0, 0)) = some ((.inl (zN t), t'), 1, 8)) ∧ TH7 r t (m.1 5) (zN t) t' 1 8 5 (m.1 5) := by
  obtain ⟨t', e, hth⟩ := c_throw (α := Unit) h 5
  exact ⟨t', fun K => by unfold XS; rw [bdU_z]; exact e, hth⟩
theorem XS_2 {G : CG} {L : Ly} {t : Sg} {m : Mu} {r : Nat} (h : R7 G L t m r) : ∃ t', (∀ K : Sg → Option (((Nat ⊕ Unit) × Sg) × Nat × Nat), XS G r K (some (.inr (.inr (.inl t)), 0, 0)) = some ((.inl (zN t), t'), 1, 8)) ∧ TH7 r t (m.1 5) (zN t) t' 1 8 2 (m.1 5) := by
  obtain ⟨t', e, hth⟩ := c_throw (α := Unit) h 2
  exact ⟨t', fun K => by unfold XS; rw [bdU_z]; exact e, hth⟩
theorem XS_3 {G : CG} {L : Ly} {t : Sg} {m : Mu} {r : Nat} (h : R7 G L t m r) : ∃ t', (∀ K : Sg → Option (((Nat ⊕ Unit) × Sg) × Nat × Nat), XS G r K (some (.inr (.inr (.inr (.inl t))), 0, 0)) = some ((.inl (zN t), t'), 1, 8)) ∧ TH7 r t (m.1 5) (zN t) t' 1 8 2 (m.1 5) := by
  obtain ⟨t', e, hth⟩ := c_throw (α := Unit) h 2
  exact ⟨t', fun K => by unfold XS; rw [bdU_z]; exact e, hth⟩
theorem XS_4 {G : CG} {r : Nat} {K : Sg → Option (((Nat ⊕ Unit) × Sg) × Nat × Nat)} {t : Sg} : XS G r K (some (.inr (.inr (.inr (.inr t))), 0, 0)) = K t := by unfold XS; rw [bdU_z]; rfl
/-- which clause it is -/
theorem c_clk {G : CG} {L : Ly} {t : Sg} {m : Mu} {r kd : Nat} (hR : R7 G L t m r) (h4 : m.1 4 = 4) (hk3 : kd < 3) (h7 : m.1 7 = 6 + (kd : Int)) : f7_clause G (some r) t = f7_clause_b29 G (some r) kd t := by
  unfold f7_clause
  rw [ztg_e hR.1.1.1, Option.bind_some, c_is hR (j := 6) (by decide) (show (427071792498 : Int) = (enc 256 (wdC 6) : Nat) by decide), Option.bind_some, w32_b2i, Option.bind_some, c_is hR (j := 7) (by decide) (show (465557354085 : Int) = (enc 256 (wdC 7) : Nat) by decide), Option.bind_some, w32_b2i]
  have hk3 : kd = 0 ∨ kd = 1 ∨ kd = 2 := by omega
  rcases hk3 with rfl | rfl | rfl
  · rw [decide_eq_true (show m.1 4 = 4 ∧ m.1 7 = ((6 : Nat) : Int) from ⟨h4, h7⟩), if_neg (by decide)]; rfl
  · rw [decide_eq_false (show ¬ (m.1 4 = 4 ∧ m.1 7 = ((6 : Nat) : Int)) by omega), if_pos (by rfl), decide_eq_true (show m.1 4 = 4 ∧ m.1 7 = ((7 : Nat) : Int) from ⟨h4, h7⟩), if_neg (by decide)]; rfl
  · rw [decide_eq_false (show ¬ (m.1 4 = 4 ∧ m.1 7 = ((6 : Nat) : Int)) by omega), if_pos (by rfl), decide_eq_false (show ¬ (m.1 4 = 4 ∧ m.1 7 = ((7 : Nat) : Int)) by omega), if_pos (by rfl)]; rfl
