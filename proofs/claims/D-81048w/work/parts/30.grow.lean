/-! A LIST GROWS: the new layout -/
def mkL (f : Nat → Nat) (L : Ly) (N N6 b rb : Nat) (nw : Nat → Nat) : Ly := (f, fun a => if a < N then L.2 a else if a < N6 then nw a else if a = b then rb else 0)
/-- roles in use -/
def OR (m : Mu) (r : Nat) : Prop := r = 3 ∨ (100 ≤ r ∧ r ≤ 154) ∨ (160 ≤ r ∧ r ≤ 177) ∨ (301 ≤ r ∧ (r : Int) ≤ 300 + m.1 11) ∨ (401 ≤ r ∧ (r : Int) ≤ 400 + m.1 71) ∨ (1064 ≤ r ∧ (r : Int) < 1064 + 64 * m.1 71) ∨ (4008 ≤ r ∧ (r : Int) < 4008 + 8 * m.1 87) ∨ (5008 ≤ r ∧ (r : Int) < 5008 + 8 * m.1 81)
theorem grow_1 {G : CG} {L : Ly} {u u6 u7 : Sg} {r rb n b' x : Nat} {el f nw : Nat → Nat} (hR : Rt G u L) (hM : ML G u L r rb n el) (h3 : 3 ≤ r ∧ r < 300 ∧ 3 ≤ rb ∧ rb < 300 ∧ r ≠ rb) (hg : gro u u6) (h6 : ∀ a, a < zN u → sam u u6 a) (hA : AD G u6 u7 (L.1 r) (L.1 rb) b' n (some x)) :
    ext L (mkL f L (zN u) (zN u6) b' rb nw) u u7 ∧ low L u u7 (fun c => c = r ∨ c = rb) ∧ (mkL f L (zN u) (zN u6) b' rb nw).2 b' = rb ∧ (mkL f L (zN u) (zN u6) b' rb nw).2 (L.1 r) = r ∧ (∀ a, a < zN u → a ≠ L.1 r → a ≠ b' → sam u u7 a) ∧ ∀ a, a < zN u6 → a ≠ L.1 r → a ≠ b' → sam u6 u7 a := by
  obtain ⟨a1, a2, a3, a4, a5⟩ := hM
  obtain ⟨d1, d2, d3, d4, d5, d6, d7, d8⟩ := hA
  have hrN : L.1 r < zN u := a1.2.2.2.2.2.2.1
  have hbN : L.1 rb < zN u := a1.2.2.2.2.2.2.2.1
  have hpos : b' = L.1 rb → 0 < zL u (L.1 rb) := by
    intro e
    have q1 := d1.2.2.2.2.1
    rw [e, (d6.2 _ (Nat.lt_of_lt_of_le hbN hg.1)).2, (hg.2 _ hbN).2] at q1
    omega
  have hb7 : b' < zN u7 := d1.2.2.2.2.2.2.2.1
  have s67 : ∀ a, a < zN u6 → a ≠ L.1 r → a ≠ b' → sam u6 u7 a := fun a _ h1 h2 => d8 a h1 h2
  have s7 : ∀ a, a < zN u → a ≠ L.1 r → a ≠ b' → sam u u7 a := fun a h0 h1 h2 => sam_tr (h6 a h0) (d8 a h1 h2)
  refine ⟨⟨gro_tr hg d6, fun a ha => ?_, fun a ha => ?_⟩, fun a ha hX => ?_, ?_, ?_, s7, s67⟩
  · show (if a < zN u then L.2 a else _) = _
    rw [if_pos (hR.2.2.1 a (by omega))]
  · have ha : (if a < zN u then L.2 a else if a < zN u6 then nw a else if a = b' then rb else 0) ≠ 0 := ha
    have z1 := hg.1
    have z2 := d6.1
    by_cases q1 : a < zN u
    · omega
    · by_cases q2 : a < zN u6
      · omega
      · rw [if_neg q1, if_neg q2] at ha
        by_cases q3 : a = b'
        · rw [q3]; exact hb7
        · rw [if_neg q3] at ha; exact absurd rfl ha
  · have hc : L.2 a ≠ 0 := by omega
    have haN := hR.2.2.1 a hc
    refine s7 a haN (fun q => hX (Or.inl (by rw [q]; exact a3))) (fun q => ?_)
    rcases d5 with e | e
    · exact hX (Or.inr (by rw [q, e]; exact a4 (hpos e)))
    · have := hg.1; omega
  · show (if b' < zN u then L.2 b' else if b' < zN u6 then nw b' else if b' = b' then rb else 0) = rb
    rcases d5 with e | e
    · rw [if_pos (by omega), e]; exact a4 (hpos e)
    · have := hg.1
      rw [if_neg (by omega), if_neg (by omega), if_pos rfl]
  · show (if L.1 r < zN u then L.2 (L.1 r) else _) = r
    rw [if_pos hrN]; exact a3
/-- the list itself -/
theorem grow_ML {G : CG} {L : Ly} {u u6 u7 : Sg} {r rb n b' x : Nat} {el el' f nw : Nat → Nat} (hR : Rt G u L) (hM : ML G u L r rb n el) (h3 : 3 ≤ r ∧ r < 300 ∧ 3 ≤ rb ∧ rb < 300 ∧ r ≠ rb) (hg : gro u u6) (h6 : ∀ a, a < zN u → sam u u6 a) (hA : AD G u6 u7 (L.1 r) (L.1 rb) b' n (some x)) (hf : f r = L.1 r) (hfb : f rb = b') (hel : ∀ i, i < n → el' i = el i) (hx : el' n = x) :
    ML G u7 (mkL f L (zN u) (zN u6) b' rb nw) r rb (n + 1) el' := by
  obtain ⟨g1, g2, g3, g4, g5, g6⟩ := grow_1 (f := f) (nw := nw) hR hM h3 hg h6 hA
  obtain ⟨d1, d2, d3, d4, d5, d6, d7, d8⟩ := hA
  have hbN : L.1 rb < zN u := hM.1.2.2.2.2.2.2.2.1
  have e1 : (mkL f L (zN u) (zN u6) b' rb nw).1 r = L.1 r := hf
  have e2 : (mkL f L (zN u) (zN u6) b' rb nw).1 rb = b' := hfb
  refine ⟨by rw [e1, e2]; exact d1, by rw [e1, e2]; exact d2, by rw [e1]; exact g4, fun _ => by rw [e2]; exact g3, fun i hi => ?_⟩
  rw [e2]
  by_cases hin : i = n
  · rw [hin, d4, hx]
  · rw [d3 i (by omega), (h6 _ hbN).2.2.2.2.2, hM.2.2.2.2 i (by omega), hel i (by omega)]
/-- all that does not hang on the list -/
theorem grow_rest {G : CG} {L : Ly} {u u6 u7 : Sg} {m : Mu} {r rb n b' x : Nat} {el f nw : Nat → Nat} (h : RC G L u m) (hM : ML G u L r rb n el) (hr : (r = 105 ∧ rb = 151) ∨ (r = 106 ∧ rb = 152) ∨ (r = 107 ∧ rb = 153) ∨ (r = 108 ∧ rb = 154)) (hg : gro u u6) (h6 : ∀ a, a < zN u → sam u u6 a) (hA : AD G u6 u7 (L.1 r) (L.1 rb) b' n (some x)) (hf : ∀ q, OR m q → q ≠ rb → f q = L.1 q) :
    Rt G u7 (mkL f L (zN u) (zN u6) b' rb nw) ∧ RS (mkL f L (zN u) (zN u6) b' rb nw) u7 m ∧ RA (mkL f L (zN u) (zN u6) b' rb nw) u7 m ∧ RJ (mkL f L (zN u) (zN u6) b' rb nw) u7 m ∧
    (r ≠ 105 → ML G u7 (mkL f L (zN u) (zN u6) b' rb nw) 105 151 (m.1 11).toNat (fun i => f (301 + i))) ∧ (r ≠ 106 → ML G u7 (mkL f L (zN u) (zN u6) b' rb nw) 106 152 (m.1 71).toNat (fun i => f (401 + i))) ∧ (r ≠ 107 → ML G u7 (mkL f L (zN u) (zN u6) b' rb nw) 107 153 (m.1 81).toNat (fun i => f (5008 + 8 * i))) ∧ (r ≠ 108 → ML G u7 (mkL f L (zN u) (zN u6) b' rb nw) 108 154 (m.1 87).toNat (fun i => f (4008 + 8 * i))) ∧
    (∀ w : Nat, 1 ≤ w → (w : Int) ≤ m.1 11 → WA G (mkL f L (zN u) (zN u6) b' rb nw) u7 (f (300 + w)) (slc m w)) ∧ (∀ e : Nat, 1 ≤ e → (e : Int) ≤ m.1 71 → EE G (mkL f L (zN u) (zN u6) b' rb nw) u7 m e) ∧ (∀ p : Nat, 1 ≤ p → (p : Int) ≤ m.1 81 → PE G (mkL f L (zN u) (zN u6) b' rb nw) u7 m p) ∧ (∀ c : Nat, 1 ≤ c → (c : Int) ≤ m.1 87 → KE G (mkL f L (zN u) (zN u6) b' rb nw) u7 m c) := by
  have h0 := h
  obtain ⟨hR, hS, hAr, hJ, hW, hE, hP, hK⟩ := h
  obtain ⟨he, hl, g3, g4, g5, g6⟩ := grow_1 (f := f) (nw := nw) hR hM (by omega) hg h6 hA
  have hX : ∀ q, (q = r ∨ q = rb) → q = 105 ∨ q = 106 ∨ q = 107 ∨ q = 108 ∨ (151 ≤ q ∧ q ≤ 154) := by intro q hq; omega
  have hold : ∀ q, OldR q → (mkL f L (zN u) (zN u6) b' rb nw).1 q = L.1 q := by
    intro q hq
    refine hf q ?_ ?_
    · unfold OldR at hq; unfold OR; omega
    · unfold OldR at hq; omega
  have hfz := frz_low hR he hl (by omega)
  have hi : ∀ q, L.2 (L.1 q) = q → 1000 ≤ q → sam u u7 (L.1 q) := by
    intro q hc hq
    have hN := hR.2.2.1 (L.1 q) (by omega)
    refine g5 _ hN (fun z => ?_) (fun z => ?_)
    · have := hM.2.2.1; rw [← z, hc] at this; omega
    · have g3' : (if b' < zN u then L.2 b' else if b' < zN u6 then nw b' else if b' = b' then rb else 0) = rb := g3
      rw [← z, if_pos hN, hc] at g3'
      omega
  have w0 := hW.1
  have e0 := hE.1
  have p0 := hP.1
  have k0 := hK.1
  refine ⟨Rt_m hR he hl hX hold, RS_m hR (hl _ (Or.inr (by rw [rC3 hR]; omega)) (by rw [rC3 hR]; omega)) (hold 3 (Or.inl rfl)) hS, RA_m hR hl hX hold hAr, RJ_m hR hl hX hold hJ, fun hn => ?_, fun hn => ?_, fun hn => ?_, fun hn => ?_, fun w q1 q2 => ?_, fun e q1 q2 => ?_, fun p q1 q2 => ?_, fun c q1 q2 => ?_⟩
  · exact ML_m hR he hl (by omega) (by decide) (hf 105 (by unfold OR; omega) (by omega)) (hf 151 (by unfold OR; omega) (by omega)) (fun i hi => hf _ (by unfold OR; omega) (by omega)) hW.2.2.1
  · exact ML_m hR he hl (by omega) (by decide) (hf 106 (by unfold OR; omega) (by omega)) (hf 152 (by unfold OR; omega) (by omega)) (fun i hi => hf _ (by unfold OR; omega) (by omega)) hE.2.2.1
  · exact ML_m hR he hl (by omega) (by decide) (hf 107 (by unfold OR; omega) (by omega)) (hf 153 (by unfold OR; omega) (by omega)) (fun i hi => hf _ (by unfold OR; omega) (by omega)) hP.2.2.1
  · exact ML_m hR he hl (by omega) (by decide) (hf 108 (by unfold OR; omega) (by omega)) (hf 154 (by unfold OR; omega) (by omega)) (fun i hi => hf _ (by unfold OR; omega) (by omega)) hK.2.2.1
  · rw [hf (300 + w) (by unfold OR; omega) (by omega)]
    exact WA_k hfz (hW.2.2.2 w q1 q2).2
  · exact EE_m hR he hfz (hf _ (by unfold OR; omega) (by omega)) (fun w z1 z2 => hf _ (by unfold OR; omega) (by omega)) (fun j hj => ⟨hf _ (by unfold OR; omega) (by omega), fun hc => hi _ hc (by omega)⟩) (ev_nF h0 e q1 q2) (hE.2.2.2 e q1 q2)
  · exact PE_m hR he (fun j hj => ⟨hf _ (by unfold OR; omega) (by omega), fun hc => hi _ hc (by omega)⟩) (hP.2.2.2 p q1 q2)
  · exact KE_m hR he (fun e z1 z2 => hf _ (by unfold OR; omega) (by omega)) (fun j hj => ⟨hf _ (by unfold OR; omega) (by omega), fun hc => hi _ hc (by omega)⟩) (hK.2.2.2.1 c q1 q2)
