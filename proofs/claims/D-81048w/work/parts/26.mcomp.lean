/-! the twin moves, part by part -/
theorem RS_mm {L : Ly} {u : Sg} {m m' : Mu} (h1 : ∀ k, k ∈ [2, 10, 97, 101, 102, 111, 115] → m'.1 k = m.1 k) (h : RS L u m) : RS L u m' := by
  unfold RS
  rw [h1 2 (by decide), h1 10 (by decide), h1 97 (by decide), h1 102 (by decide), h1 101 (by decide), h1 111 (by decide), h1 115 (by decide)]
  exact h
theorem RA_mm {L : Ly} {u : Sg} {m m' : Mu} (h1 : ∀ k, k ∈ [2, 97, 102, 111, 115] → m'.1 k = m.1 k) (h2 : ∀ k, k ∈ [0, 1, 98, 99, 100, 103, 104, 105, 106, 109, 110, 112] → m'.2 k = m.2 k) (h : RA L u m) : RA L u m' := by
  unfold RA
  rw [h1 2 (by decide), h1 97 (by decide), h1 102 (by decide), h1 111 (by decide), h1 115 (by decide), h2 0 (by decide), h2 1 (by decide), h2 98 (by decide), h2 99 (by decide), h2 100 (by decide), h2 103 (by decide), h2 104 (by decide), h2 105 (by decide), h2 106 (by decide), h2 109 (by decide), h2 110 (by decide), h2 112 (by decide)]
  exact h
theorem RJ_mm {L : Ly} {u : Sg} {m m' : Mu} (h1 : ∀ k, k ∈ [68, 70] → m'.1 k = m.1 k) (h2 : ∀ k, k ∈ [66, 67, 69] → m'.2 k = m.2 k) (h : RJ L u m) : RJ L u m' := by
  unfold RJ
  rw [h1 68 (by decide), h1 70 (by decide), h2 66 (by decide), h2 67 (by decide), h2 69 (by decide)]
  exact h
theorem RW_mm {G : CG} {L : Ly} {u : Sg} {m m' : Mu} (h1 : m'.1 11 = m.1 11) (h3 : ∀ w : Nat, 1 ≤ w → (w : Int) ≤ m.1 11 → slc m' w = slc m w) (h : RW G L u m) : RW G L u m' := by
  unfold RW
  rw [h1]
  obtain ⟨a1, a2, a3, a4⟩ := h
  exact ⟨a1, a2, a3, fun w q1 q2 => by rw [h3 w q1 q2]; exact a4 w q1 q2⟩
theorem EE_mm {G : CG} {L : Ly} {u : Sg} {m m' : Mu} {e : Nat} (h1 : m'.1 11 = m.1 11) (h2 : ∀ k, k ∈ [72, 73, 74, 75] → m'.2 k = m.2 k) (h3 : ∀ w : Nat, 1 ≤ w → (w : Int) ≤ m.1 11 → slc m' w = slc m w) (h : EE G L u m e) : EE G L u m' e := by
  have hh := h
  unfold EE at h ⊢
  rw [h1, h2 72 (by decide), h2 73 (by decide), h2 74 (by decide), h2 75 (by decide), h3 (m.2 72 e).toNat (by omega) (by omega)]
  exact hh
theorem RE_mm {G : CG} {L : Ly} {u : Sg} {m m' : Mu} (h1 : m'.1 11 = m.1 11) (h71 : m'.1 71 = m.1 71) (h2 : ∀ k, k ∈ [72, 73, 74, 75] → m'.2 k = m.2 k) (h3 : ∀ w : Nat, 1 ≤ w → (w : Int) ≤ m.1 11 → slc m' w = slc m w) (h : RE G L u m) : RE G L u m' := by
  unfold RE
  rw [h71]
  exact ⟨h.1, h.2.1, h.2.2.1, fun e q1 q2 => EE_mm h1 h2 h3 (h.2.2.2 e q1 q2)⟩
theorem PE_mm {G : CG} {L : Ly} {u : Sg} {m m' : Mu} {p : Nat} (h1 : m.1 11 ≤ m'.1 11) (h82 : m'.2 82 p = m.2 82 p) (h2 : ∀ k j, (k = 83 ∨ k = 84 ∨ k = 85 ∨ k = 86) → 24 * p ≤ j → j < 24 * p + 24 → m'.2 k j = m.2 k j) (h : PE G L u m p) : PE G L u m' p := by
  obtain ⟨b1, b2, b3, b4, b5, b6, b7, b8⟩ := h
  refine ⟨b1, b2, b3, by rw [h82]; exact b4, by rw [h82]; exact b5, by rw [h82]; exact b6, b7, fun k hk => ?_⟩
  rw [h82] at hk
  obtain ⟨c0, c1⟩ := b8 k hk
  rw [h2 83 _ (by simp) (by omega) (by omega), h2 84 _ (by simp) (by omega) (by omega), h2 85 _ (by simp) (by omega) (by omega), h2 86 _ (by simp) (by omega) (by omega)]
  refine ⟨fun j hj => ?_, c1.1, c1.2.1, c1.2.2.1, c1.2.2.2.1, fun q => Int.le_trans (c1.2.2.2.2.1 q) h1, c1.2.2.2.2.2⟩
  rw [h2 (83 + j) _ (by omega) (by omega) (by omega)]
  exact c0 j hj
theorem RP_mm {G : CG} {L : Ly} {u : Sg} {m m' : Mu} (h1 : m.1 11 ≤ m'.1 11) (h81 : m'.1 81 = m.1 81) (h2 : ∀ k, k ∈ [82, 83, 84, 85, 86] → m'.2 k = m.2 k) (h : RP G L u m) : RP G L u m' := by
  unfold RP
  rw [h81]
  refine ⟨h.1, h.2.1, h.2.2.1, fun p q1 q2 => PE_mm h1 (by rw [h2 82 (by decide)]) (fun k j hk _ _ => ?_) (h.2.2.2 p q1 q2)⟩
  rw [h2 k (by rcases hk with rfl | rfl | rfl | rfl <;> decide)]
theorem KE_mm {G : CG} {L : Ly} {u : Sg} {m m' : Mu} {c : Nat} (h81 : m.1 81 ≤ m'.1 81) (h71 : m.1 71 ≤ m'.1 71) (h2 : ∀ k, k ∈ [88, 89, 90, 91, 92, 107, 108] → m'.2 k c = m.2 k c) (h3 : ∀ k j, (k = 93 ∨ k = 94) → 6 * c ≤ j → j < 6 * c + 6 → m'.2 k j = m.2 k j) (h : KE G L u m c) : KE G L u m' c := by
  obtain ⟨b1, b2, b3, b4, b5, b6, b7, b8, b9, b10, b11, b12, b13, b14, b15, b16, b17, b18, b19, b20⟩ := h
  unfold KE
  rw [h2 88 (by decide), h2 89 (by decide), h2 90 (by decide), h2 91 (by decide), h2 92 (by decide), h2 107 (by decide), h2 108 (by decide)]
  have hn := b17.2.2.2.2.2.1
  refine ⟨b1, b2, b3, b4, b5, Int.le_trans b6 h81, b7, Int.le_trans b8 h71, b9, b10, b11, b12, b13, b14, b15, b16, ?_, fun k hk => ?_, b19, b20⟩
  · obtain ⟨a1, a2, a3, a4, a5, a6, a7, a8⟩ := b17
    refine ⟨a1, a2, a3, a4, a5, a6, a7, fun k hk => ?_⟩
    show zA u (L.1 (4001 + 8 * c + 1)) k = m'.2 93 (6 * c + k) ∧ zA u (L.1 (4001 + 8 * c + 2)) k = m'.2 94 (6 * c + k)
    rw [h3 93 _ (by simp) (by omega) (by omega), h3 94 _ (by simp) (by omega) (by omega)]
    exact a8 k hk
  · rw [h3 93 _ (by simp) (by omega) (by omega), h3 94 _ (by simp) (by omega) (by omega)]
    exact b18 k hk
theorem RK_mm {G : CG} {L : Ly} {u : Sg} {m m' : Mu} (h87 : m'.1 87 = m.1 87) (h81 : m.1 81 ≤ m'.1 81) (h71 : m.1 71 ≤ m'.1 71) (h2 : ∀ k, k ∈ [88, 89, 90, 91, 92, 93, 94, 107, 108] → m'.2 k = m.2 k) (h : RK G L u m) : RK G L u m' := by
  unfold RK
  rw [h87]
  refine ⟨h.1, h.2.1, h.2.2.1, fun c q1 q2 => KE_mm h81 h71 (fun k hk => ?_) (fun k j hk _ _ => ?_) (h.2.2.2.1 c q1 q2), by rw [h2 107 (by decide), h2 108 (by decide)]; exact h.2.2.2.2⟩
  · rw [h2 k (by revert hk; revert k; decide)]
  · rw [h2 k (by rcases hk with rfl | rfl <;> decide)]
/-- nothing low has changed: what follows for the layout that stays -/
theorem ext_same {G : CG} {L : Ly} {u u' : Sg} (hR : Rt G u L) (hT : zT u' = zT u) (hL : zL u' = zL u) (hN : zN u' = zN u) : ext L L u u' := ⟨⟨by rw [hN]; exact Nat.le_refl _, fun x _ => ⟨by rw [hT], by rw [hL]⟩⟩, fun _ _ => rfl, by rw [hN]; exact hR.2.2.1⟩
/-- writes to cells whose colour is in X -/
def wr (L : Ly) (u u' : Sg) (X : Nat → Prop) : Prop := zT u' = zT u ∧ zL u' = zL u ∧ zN u' = zN u ∧ zR u' = zR u ∧ zB u' = zB u ∧ ∀ a, ¬ X (L.2 a) → zI u' a = zI u a ∧ zA u' a = zA u a
theorem wr_rf {L : Ly} {u : Sg} {X : Nat → Prop} : wr L u u X := ⟨rfl, rfl, rfl, rfl, rfl, fun _ _ => ⟨rfl, rfl⟩⟩
theorem wr_I {L : Ly} {u v : Sg} {X : Nat → Prop} {a g : Nat} {x : Int} (h : wr L u v X) (ha : X (L.2 a)) : wr L u (zsI v a g x) X :=
  ⟨h.1, h.2.1, h.2.2.1, h.2.2.2.1, h.2.2.2.2.1, fun b hb => ⟨by rw [zI_ne (fun q => hb (by rw [q]; exact ha))]; exact (h.2.2.2.2.2 b hb).1, (h.2.2.2.2.2 b hb).2⟩⟩
theorem wr_A {L : Ly} {u v : Sg} {X : Nat → Prop} {a g : Nat} {x : Int} (h : wr L u v X) (ha : X (L.2 a)) : wr L u (zsA v a g x) X :=
  ⟨h.1, h.2.1, h.2.2.1, h.2.2.2.1, h.2.2.2.2.1, fun b hb => ⟨(h.2.2.2.2.2 b hb).1, by rw [zA_ne (fun q => hb (by rw [q]; exact ha))]; exact (h.2.2.2.2.2 b hb).2⟩⟩
theorem wr_sam {L : Ly} {u u' : Sg} {X : Nat → Prop} (h : wr L u u' X) {a : Nat} (ha : ¬ X (L.2 a)) : sam u u' a := ⟨by rw [h.1], by rw [h.2.1], (h.2.2.2.2.2 a ha).1, by rw [h.2.2.2.1], (h.2.2.2.2.2 a ha).2, by rw [h.2.2.2.2.1]⟩
theorem wr_tr {L : Ly} {u v w : Sg} {X : Nat → Prop} (h : wr L u v X) (k : wr L v w X) : wr L u w X := ⟨k.1.trans h.1, k.2.1.trans h.2.1, k.2.2.1.trans h.2.2.1, k.2.2.2.1.trans h.2.2.2.1, k.2.2.2.2.1.trans h.2.2.2.2.1, fun a ha => ⟨(k.2.2.2.2.2 a ha).1.trans (h.2.2.2.2.2 a ha).1, (k.2.2.2.2.2 a ha).2.trans (h.2.2.2.2.2 a ha).2⟩⟩
/-- writes to high colours keep all that lies low -/
theorem wr_low {G : CG} {L : Ly} {u u' : Sg} {m : Mu} {X : Nat → Prop} (hR : Rt G u L) (h : wr L u u' X) (hX : ∀ r, X r → 1000 ≤ r) : Rt G u' L ∧ (RS L u m → RS L u' m) ∧ (RA L u m → RA L u' m) ∧ (RJ L u m → RJ L u' m) ∧ (RW G L u m → RW G L u' m) := by
  have he := ext_same hR h.1 h.2.1 h.2.2.1
  have hl : low L u u' (fun _ => False) := fun a ha _ => wr_sam h (fun q => by have := hX _ q; omega)
  have hf := frz_low hR he hl (fun q => q)
  refine ⟨Rt_m hR he hl (fun r q => q.elim) (fun _ _ => rfl), RS_m hR (wr_sam h (fun q => by have := hX _ q; rw [rC3 hR] at this; omega)) rfl, RA_m hR hl (fun r q => q.elim) (fun _ _ => rfl), RJ_m hR hl (fun r q => q.elim) (fun _ _ => rfl), fun hW => ?_⟩
  exact ⟨hW.1, hW.2.1, ML_m hR he hl ⟨fun q => q, fun q => q, fun q => q⟩ (by decide) rfl rfl (fun _ _ => rfl) hW.2.2.1, fun w q1 q2 => ⟨(hW.2.2.2 w q1 q2).1, WA_k hf (hW.2.2.2 w q1 q2).2⟩⟩
theorem wr_E {G : CG} {L : Ly} {u u' : Sg} {m : Mu} {X : Nat → Prop} (hR : Rt G u L) (h : wr L u u' X) (hX : ∀ r, X r → 4000 ≤ r) (h8 : ∀ e : Nat, 1 ≤ e → (e : Int) ≤ m.1 71 → nF (slc m (m.2 72 e).toNat) ≤ 8) (k : RE G L u m) : RE G L u' m := by
  have he := ext_same hR h.1 h.2.1 h.2.2.1
  have hl : low L u u' (fun _ => False) := fun a ha _ => wr_sam h (fun q => by have := hX _ q; omega)
  have hf := frz_low hR he hl (fun q => q)
  refine ⟨k.1, k.2.1, ML_m hR he hl ⟨fun q => q, fun q => q, fun q => q⟩ (by decide) rfl rfl (fun _ _ => rfl) k.2.2.1, fun e q1 q2 => EE_m hR he hf rfl (fun _ _ _ => rfl) (fun j hj => ⟨rfl, fun hc => wr_sam h (fun q => ?_)⟩) (h8 e q1 q2) (k.2.2.2 e q1 q2)⟩
  have := hX _ q
  rw [hc] at this
  have := k.2.1
  omega
theorem wr_P {G : CG} {L : Ly} {u u' : Sg} {m : Mu} {X : Nat → Prop} (hR : Rt G u L) (h : wr L u u' X) (hX : ∀ r, X r → 1000 ≤ r ∧ r < 5000) (k : RP G L u m) : RP G L u' m := by
  have he := ext_same hR h.1 h.2.1 h.2.2.1
  have hl : low L u u' (fun _ => False) := fun a ha _ => wr_sam h (fun q => by have := hX _ q; omega)
  refine ⟨k.1, k.2.1, ML_m hR he hl ⟨fun q => q, fun q => q, fun q => q⟩ (by decide) rfl rfl (fun _ _ => rfl) k.2.2.1, fun p q1 q2 => PE_m hR he (fun j hj => ⟨rfl, fun hc => wr_sam h (fun q => ?_)⟩) (k.2.2.2 p q1 q2)⟩
  have := hX _ q
  omega
theorem wr_K {G : CG} {L : Ly} {u u' : Sg} {m : Mu} {X : Nat → Prop} (hR : Rt G u L) (h : wr L u u' X) (hX : ∀ r, X r → 1000 ≤ r ∧ (r < 4000 ∨ 5000 ≤ r)) (k : RK G L u m) : RK G L u' m := by
  have he := ext_same hR h.1 h.2.1 h.2.2.1
  have hl : low L u u' (fun _ => False) := fun a ha _ => wr_sam h (fun q => by have := hX _ q; omega)
  refine ⟨k.1, k.2.1, ML_m hR he hl ⟨fun q => q, fun q => q, fun q => q⟩ (by decide) rfl rfl (fun _ _ => rfl) k.2.2.1, fun c q1 q2 => KE_m hR he (fun _ _ _ => rfl) (fun j hj => ⟨rfl, fun hc => wr_sam h (fun q => ?_)⟩) (k.2.2.2.1 c q1 q2), k.2.2.2.2⟩
  have := hX _ q
  have := k.2.1
  omega
/-- the facts of an event's wording are at most eight -/
theorem ev_nF {G : CG} {L : Ly} {u : Sg} {m : Mu} (h : RC G L u m) : ∀ e : Nat, 1 ≤ e → (e : Int) ≤ m.1 71 → nF (slc m (m.2 72 e).toNat) ≤ 8 := by
  intro e h1 h2
  have hE := h.2.2.2.2.2.1.2.2.2 e h1 h2
  obtain ⟨b1, b2, -⟩ := hE
  have hW := (h.2.2.2.2.1.2.2.2 (m.2 72 e).toNat (by omega) (by omega)).1
  have := hW.1.2.1
  unfold nF
  omega
