/-! THE READER: items: state, outcomes -/
/-- cells below N0 are the same -/
def FRo (N0 : Nat) (t t' : Sg) : Prop := gro t t' ∧ ∀ q, q < N0 → sam t t' q
theorem FRo_rf {N0 : Nat} {t : Sg} : FRo N0 t t := ⟨gro_rf, fun _ _ => sam_rf⟩
theorem FRo_tr {N0 : Nat} {a b c : Sg} (h : FRo N0 a b) (k : FRo N0 b c) : FRo N0 a c := ⟨gro_tr h.1 k.1, fun q hq => sam_tr (h.2 q hq) (k.2 q hq)⟩
theorem FRo_7 {N0 r : Nat} {t t' : Sg} (hN : N0 ≤ zN t) (hr : N0 ≤ r) (k : fr7 r t t') : FRo N0 t t' := ⟨k.1, fun q hq => k.2.1 q (by omega) (by omega)⟩
def SI7 : List Nat := [3, 4, 5, 6, 7, 8, 9, 46, 49, 50, 52, 56]
def AI7 : List Nat := [12, 13, 14, 15, 16, 17, 18, 19, 20, 21, 22, 27, 28, 29, 30, 31, 32, 42, 43, 44, 45, 48, 53, 54, 55]
/-- the twin's frame of an item: place 0 and the numbers of reading -/
def MI (m m' : Mu) : Prop := mfr SI7 AI7 m m' ∧ ∀ w, 1 ≤ w → slc m' w = slc m w
theorem MI_rf {m : Mu} : MI m m := ⟨mfr_rf, fun _ _ => rfl⟩
theorem MI_tr {a b c : Mu} (h : MI a b) (k : MI b c) : MI a c := ⟨mfr_tr h.1 k.1, fun w hw => (k.2 w hw).trans (h.2 w hw)⟩
theorem MI_7 {m m' : Mu} (h : mfr CS7 CA7 m m') : MI m m' := ⟨mfr_up h (by decide) (by decide), fun w _ => slc_fr h CA7_wid⟩
/-- a number is put into an array at place 0 -/
theorem MI_ma {m : Mu} {k i : Nat} {v : Int} (hk : k ∈ AI7) (hi : wid k = 0 ∨ i < wid k) : MI m (ma m k i v) := by
  refine ⟨mfr_ma mfr_rf hk, fun w hw => ?_⟩
  funext k' j
  unfold slc
  by_cases z : j < wid k'
  · rw [if_pos z, if_pos z]
    by_cases q : k' = k
    · subst q
      rw [ma_s, if_neg (fun e => ?_)]
      have h1 : wid k' * 1 ≤ wid k' * w := Nat.mul_le_mul_left _ hw
      rcases hi with hi | hi <;> omega
    · rw [ma_o q]
  · rw [if_neg z, if_neg z]
theorem MI_ms {m : Mu} {k : Nat} {v : Int} (hk : k ∈ SI7) : MI m (ms m k v) := ⟨mfr_ms mfr_rf hk, fun _ _ => rfl⟩
/-- the twin reads place 0, and has made as many nodes as it has counted -/
def Z51 (m : Mu) : Prop := m.1 51 = 0 ∧ m.1 46 = m.1 52
theorem Z51_e {m m' : Mu} (h : Z51 m) (h1 : m'.1 51 = m.1 51) (h2 : m'.1 46 = m.1 46) (h3 : m'.1 52 = m.1 52) : Z51 m' := ⟨h1.trans h.1, by rw [h2, h3]; exact h.2⟩
/-- between two items -/
def IX (G : CG) (L : Ly) (r a N0 : Nat) (κ : Nat → Nat) (t : Sg) (m : Mu) (W : Wv) : Prop := (R7 G L t m r ∧ m.1 52 ≤ m.1 5 ∧ zI t r 287 = 0 ∧ zR t r 286 = some a) ∧ WB G r a N0 κ t m W ∧ CVR m W (m.1 46) ∧ (Z51 m ∧ 0 ≤ m.1 46 ∧ m.1 46 ≤ m.1 5) ∧ St G t ∧ (L.1 3 < N0 ∧ L.1 100 < N0 ∧ L.1 101 < N0 ∧ N0 ≤ zN t ∧ N0 ≤ r)
theorem WB_LK {G : CG} {r a N0 : Nat} {κ : Nat → Nat} {t : Sg} {m : Mu} {W : Wv} (h : WB G r a N0 κ t m W) : LK (ZO t r) t a W := by
  obtain ⟨⟨⟨o1, o2, o3⟩, o4, o5, o6, o7⟩, ⟨b1, b2, b3, b4, b5, -⟩, ⟨e1, ⟨l1, c1, f1, f2, f3, f4, f5, f6, f7⟩, f8⟩, ⟨e2, ⟨l2, c2, g1, g2, g3, g4, g5, g6, g7⟩, g8⟩, -⟩ := h
  have Z : ∀ q, κ q ≠ 0 → κ q ≠ 3 → ZO t r q := fun q h1 h2 => ⟨o4 q h1, fun e => h2 (by rw [e]; exact o3)⟩
  have Zb : ∀ (j b : Nat), j ≠ 0 → j ≠ 3 → (0 < zL t b → κ b = j) → (zL t b = 0 → b < G0 G) → ZO t r b := fun j b h1 h2 h3 h4 => by
    by_cases z : zL t b = 0
    · exact Z b (by rw [o6 b (h4 z)]; decide) (by rw [o6 b (h4 z)]; decide)
    · exact Z b (by rw [h3 (by omega)]; exact h1) (by rw [h3 (by omega)]; exact h2)
  refine ⟨⟨Z a (by rw [o1]; decide) (by rw [o1]; decide), o2⟩, ⟨b2, b3, b4, b5⟩, ⟨l1, c1, e1, f1, f2, Z l1 (by rw [f4]; decide) (by rw [f4]; decide), Zb 240 c1 (by decide) (by decide) f5 f6, f7, fun f hf => ?_⟩, ⟨l2, c2, e2, g1, g2, Z l2 (by rw [g4]; decide) (by rw [g4]; decide), Zb 241 c2 (by decide) (by decide) g5 g6, g7, fun k hk => ?_⟩⟩
  · obtain ⟨h1, h2, h3, h4, h5, h6, h7, h8, c, k1, k2, k3, k4, k5⟩ := f8 f hf
    exact ⟨Z _ (by rw [h1]; decide) (by rw [h1]; decide), h2, h3, h4, h5, h6, h7, ⟨h8.1, h8.2.1, h8.2.2.1, h8.2.2.2.1⟩, c, k1, Z c (by rw [k2]; decide) (by rw [k2]; decide), k3, k4, k5⟩
  · obtain ⟨h1, h2, h3⟩ := g8 k hk
    exact ⟨Z _ (by rw [h1]; decide) (by rw [h1]; decide), h2, h3⟩
theorem IX_CX {G : CG} {L : Ly} {r a N0 : Nat} {κ : Nat → Nat} {t : Sg} {m : Mu} {W : Wv} (h : IX G L r a N0 κ t m W) : CX G L t m r a 0 W := ⟨h.1.1, h.1.2.1, ⟨WB_LK h.2.1, h.1.2.2.2⟩, ⟨h.2.1.2.1.1, by omega, h.2.2.2.1.1.1⟩, h.2.2.2.2.1⟩
theorem KK_7 {G : CG} {r a N0 : Nat} {κ : Nat → Nat} {t t' : Sg} (h : KO G r a N0 κ t) (k : fr7 r t t') : KK κ κ t t' := ⟨k.1, fun q h1 h2 => ⟨k.2.1 q (h.2.1 q h1) (fun e => h2 (by rw [e]; exact h.1.2.2)), rfl⟩⟩
theorem KO_7 {G : CG} {r a N0 : Nat} {κ : Nat → Nat} {t t' : Sg} (h : KO G r a N0 κ t) (k : fr7 r t t') : KO G r a N0 κ t' := by
  obtain ⟨⟨o1, o2, o3⟩, o4, o5, o6, o7⟩ := h
  have sa := k.2.1 a (o4 a (by rw [o1]; decide)) (fun e => by rw [e, o3] at o1; exact absurd o1 (by decide))
  exact ⟨⟨o1, by rw [sa.1]; exact o2, o3⟩, fun q hq => Nat.lt_of_lt_of_le (o4 q hq) k.1.1, o5, o6, o7⟩
/-- IX is kept by next -/
theorem IX_n {G : CG} {L : Ly} {r a N0 : Nat} {κ : Nat → Nat} {t t' : Sg} {m m' : Mu} {W : Wv} (h : IX G L r a N0 κ t m W) (k : NX7 G L r t m t' m') : IX G L r a N0 κ t' m' W := by
  obtain ⟨⟨h1, h2, h3, h4⟩, h5, h6, ⟨h7, h8, h9⟩, h10, h11, h12, h13, h14, h15⟩ := h
  obtain ⟨k1, k2, k3, k4, k5, k6, k7, k8⟩ := k
  refine ⟨⟨k1, k2, by rw [k5 287 (by omega)]; exact h3, by rw [k3.2.2.2.1]; exact h4⟩, ?_, ?_, ⟨Z51_e h7 (k8 51 (by omega)) (k8 46 (by omega)) (k8 52 (by omega)), by rw [k8 46 (by omega)]; exact h8, by rw [k8 46 (by omega)]; omega⟩, St_k7 h10 h1.2.1.1 h1.1.1.2.1 k3, h11, h12, h13, by omega, h15⟩
  · refine WB_k (KK_7 h5.1 k3) (KO_7 h5.1 k3) ?_ (k8 56 (by omega)) ⟨by rw [k8 46 (by omega)]; exact Int.le_refl _, fun k _ => nd_of (fun j _ => by rw [k7]) k⟩ (fun n _ => by rw [k7]; exact ⟨rfl, rfl, rfl⟩) h5
    funext x y
    unfold slc
    rw [k7]
  · unfold CVR SMS at h6 ⊢
    rw [k8 46 (by omega), k8 56 (by omega), k7]
    exact h6
/-- the twin's end at a fault, in an item -/
def MFI (m m' : Mu) (K P : Int) : Prop := ((m'.1 8 = K ∧ m'.1 9 = P) ∨ (K = 1 ∧ m'.1 8 = 0 ∧ m'.1 4 = 5 ∧ m'.1 5 = P)) ∧ MI m m'
theorem MFI_B {m m' : Mu} {K P : Int} (h : MFB m m' K P) : MFI m m' K P := by
  rcases h with ⟨h1, h2, h3⟩ | ⟨h1, h2, h3, h4, h5⟩
  · exact ⟨Or.inl ⟨h1, h2⟩, MI_7 h3⟩
  · exact ⟨Or.inr ⟨h1, h2, h3, h4⟩, MI_7 h5⟩
theorem MFI_tr {m m1 m' : Mu} {K P : Int} (h : MI m m1) (k : MFI m1 m' K P) : MFI m m' K P := ⟨k.1, MI_tr h k.2⟩
/-- a fault was thrown in an item -/
def THI (N0 : Nat) (t : Sg) (w : Int) (e : Nat) (t' : Sg) (c n : Nat) (K P : Int) : Prop := zT t' e = 9 ∧ (zI t' e 326 = K ∧ 1 ≤ K ∧ K ≤ 6) ∧ zI t' e 327 = P ∧ e < zN t' ∧ FRo N0 t t' ∧ (w ≤ P ∧ P ≤ 512) ∧ (c : Int) ≤ 20 * (P - w) + 1 ∧ (n : Int) ≤ 600 * (P - w) + 8
theorem THI_tr {N0 r : Nat} {t t1 t' : Sg} {w w1 K P : Int} {e c n c1 n1 : Nat} (h : FRo N0 t t1) (hN : N0 ≤ zN t1 ∧ N0 ≤ r) (hw : w ≤ w1) (k : TH7 r t1 w1 e t' c n K P) (hc : (c1 : Int) ≤ c + 20 * (w1 - w)) (hn : (n1 : Int) ≤ n + 600 * (w1 - w)) : THI N0 t w e t' c1 n1 K P := by
  obtain ⟨q1, q2, q3, q4, q5, q6, q7, q8⟩ := k
  exact ⟨q1, q2, q3, q4, FRo_tr h (FRo_7 hN.1 hN.2 q5), by omega, by omega, by omega⟩
/-- what an item comes to -/
def ITM (G : CG) (L : Ly) (r a N0 : Nat) (t : Sg) (m : Mu) (x : Option (((Nat ⊕ Unit) × Sg) × Nat × Nat)) (y : Option Mu) : Prop := (∃ t' cc nn m' κ' W', x = some ((.inr (), t'), cc, nn) ∧ y = some m' ∧ IX G L r a N0 κ' t' m' W' ∧ FRo N0 t t' ∧ MI m m' ∧ CST (m.1 5) (m'.1 5) 0 cc nn) ∨ (∃ e t' cc nn K P m', x = some ((.inl e, t'), cc, nn) ∧ THI N0 t (m.1 5) e t' cc nn K P ∧ y = some m' ∧ MFI m m' K P)
