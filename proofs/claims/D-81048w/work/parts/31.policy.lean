/-! THE CALL policy -/
/-- behind a call that makes cells: the same answer, the relation in a new layout, at most C cells of S slots -/
def aftU (G : CG) (L : Ly) (C S : Nat) : (Int × Sg) × Nat × Nat → Int × Mu → Prop := fun a b => a.1.1 = b.1 ∧ a.2.1 ≤ C ∧ a.2.2 ≤ S ∧ ∃ L' : Ly, L'.1 3 = L.1 3 ∧ RC G L' a.1.2 b.2
theorem sim_okU {α β : Type} {x : Option (α × Nat × Nat)} {y : Option β} {b : β} {C S : Nat} {P : α → Prop} {R : α × Nat × Nat → β → Prop} (h : okU x C S P) (hy : y = some b) (k : ∀ a c s, P a → c ≤ C → s ≤ S → R (a, c, s) b) : sim x y R := by
  obtain ⟨⟨a, c, s⟩, e, p, h1, h2⟩ := h
  exact ⟨(a, c, s), b, e, hy, k a c s p h1 h2⟩
/-- a policy's cells are made -/
def polU (u : Sg) : Sg := zsR (znew (zsR (znew (zsR (znew (zsR (znew (znew u 21 0) 101 24) (zN u) 800 (some (zN u + 1))) 101 24) (zN u) 801 (some (zN u + 2))) 101 24) (zN u) 802 (some (zN u + 3))) 101 24) (zN u) 803 (some (zN u + 4))
theorem polU_f {G : CG} {u : Sg} (hG : G0 G ≤ zN u) : okU (f20_init G (some (zN u)) (znew u 21 0)) 4 96 (fun r => r = polU u) := by
  unfold f20_init
  refine okU_eq (a := zN u) rfl ?_
  refine okU_newA 24 rfl (by omega) (by omega) (by omega) ?_
  refine okU_eq (pfR_e (by rw [znew_T, znew_T]; simp [znew_N]) hG) ?_
  refine okU_newA 24 rfl (by omega) (by omega) (by omega) ?_
  refine okU_eq (pfR_e (by rw [znew_T, zsR_T, zsR_N, znew_T, znew_T]; simp [znew_N, Nat.add_assoc]) hG) ?_
  refine okU_newA 24 rfl (by omega) (by omega) (by omega) ?_
  refine okU_eq (pfR_e (by rw [znew_T, zsR_T, zsR_N, znew_T, zsR_T, zsR_N, znew_T, znew_T]; simp [znew_N, zsR_N, Nat.add_assoc]) hG) ?_
  refine okU_newA 24 rfl (by omega) (by omega) (by omega) ?_
  refine okU_eq (pfR_e (by rw [znew_T, zsR_T, zsR_N, znew_T, zsR_T, zsR_N, znew_T, zsR_T, zsR_N, znew_T, znew_T]; simp [znew_N, zsR_N, Nat.add_assoc]) hG) ?_
  exact okU_some rfl (by omega) (by omega)
theorem polU_ok {u : Sg} : zN (polU u) = zN u + 5 ∧ gro u (polU u) ∧ (∀ a, a < zN u → sam u (polU u) a) ∧ zT (polU u) (zN u) = 21 ∧ zI (polU u) (zN u) 804 = 0 ∧ ∀ j, j < 4 → zR (polU u) (zN u) (800 + j) = some (zN u + 1 + j) ∧ zT (polU u) (zN u + 1 + j) = 101 ∧ zL (polU u) (zN u + 1 + j) = 24 := by
  have hs : ∀ a, a < zN u → sam u (polU u) a := by
    intro a ha
    unfold polU
    refine sam_zsR (sam_znew (sam_zsR (sam_znew (sam_zsR (sam_znew (sam_zsR (sam_znew (sam_znew sam_rf ?_) ?_) ?_) ?_) ?_) ?_) ?_) ?_) ?_ <;> (try simp only [zsR_N, znew_N]) <;> omega
  have hN : zN (polU u) = zN u + 5 := rfl
  refine ⟨hN, ⟨by rw [hN]; omega, fun x hx => ⟨(hs x hx).1, (hs x hx).2.1⟩⟩, hs, ?_, ?_, fun j hj => ?_⟩
  · unfold polU; simp [zsR_T, znew_T, zsR_N, znew_N, Nat.add_assoc]
  · unfold polU; simp [zsR_I, znew_I, zsR_N, znew_N, Nat.add_assoc]
  · rcases (show j = 0 ∨ j = 1 ∨ j = 2 ∨ j = 3 by omega) with rfl | rfl | rfl | rfl <;>
    · unfold polU; simp [zsR_T, zsR_L, zsR_R, znew_R, znew_T, znew_L, zsR_N, znew_N, Nat.add_assoc]
theorem o_policy {G : CG} {L : Ly} {u : Sg} {m : Mu} (h : RC G L u m) : sim (f0_policy G (some (L.1 3)) u) (m5_policy m) (aftU G L 6 140) := by
  have h0 := h
  obtain ⟨hR, hS, hA, hJ, hW, hE, hP, hK⟩ := h
  have p0 := hP.1
  have p12 := hP.2.1
  unfold f0_policy m5_policy
  refine sim_L (gfR_v (rT3 hR) (rR3_7 hR)) (sim_L (ztg_e hP.2.2.1.1.1) (sim_L (sz_int hP.1 hP.2.2.1) (sim_ite Iff.rfl (fun _ => sim_some ⟨rfl, Nat.zero_le _, Nat.zero_le _, L, rfl, h0⟩) (fun hc => ?_))))
  rw [w32_id (by omega) (by omega)] at hc
  obtain ⟨n, hn⟩ : ∃ n : Nat, m.1 81 = n := ⟨(m.1 81).toNat, by omega⟩
  have hML : ML G u L 107 153 n (fun i => L.1 (5008 + 8 * i)) := by
    have := hP.2.2.1
    rw [hn] at this
    exact this
  refine sim_L (gfR_v (rT3 hR) (rR3_7 hR)) ?_
  obtain ⟨v1, v2, v3, v4, v5, v6⟩ := polU_ok (u := u)
  have hG := hR.2.2.2.2.1
  have hl6 : LA (polU u) (L.1 107) (L.1 153) n := LA_sam hML.1 (v3 _ hML.1.2.2.2.2.2.2.1) (v3 _ hML.1.2.2.2.2.2.2.2.1) v2.1 (fun x hx => (v2.2 x hx).1)
  have hw6 : LW G (polU u) (L.1 107) (L.1 153) := ⟨hML.2.1.1, by rw [(v2.2 _ hML.1.2.2.2.2.2.2.2.1).2]; exact hML.2.1.2.1, by rw [(v2.2 _ hML.1.2.2.2.2.2.2.2.1).2]; exact hML.2.1.2.2⟩
  obtain ⟨b', u7, hadd, hAD⟩ := J_add (v := some (zN u)) hl6 hw6 (by show G0 G ≤ zN (polU u); rw [v1]; omega) (by omega) shr32_1 (fun x hx => by cases hx; exact ⟨by rw [v4]; decide, by rw [v1]; omega⟩)
  have hcls : okU (bdU (zNew u 21 5) fun q5 => bdU (f20_init G (some q5.1) q5.2) fun q6 => (ztg q6 6 (some (L.1 107))).bind fun b7 => bdU (fJ2_add G (some b7) (some q5.1) q6) fun q8 => (gfR q8.2 1 7 (some (L.1 3))).bind fun x9 => (ztg q8.2 6 x9).bind fun b10 => (fJ2_size G (some b10) q8.2).bind fun x11 => some ((x11, q8.2), 0, 0)) 6 140 (fun r => r = ((n : Int) + 1, u7)) := by
    refine okU_new (by omega) (by omega) ?_
    refine okU_bdU (polU_f hG) (by omega) (by omega) (fun q hq => ?_)
    subst hq
    refine okU_eq (ztg_e hl6.1) ?_
    refine okU_bdU hadd (by omega) (by omega) (fun q hq => ?_)
    subst hq
    have s3 : sam u u7 (L.1 3) := sam_tr (v3 _ (hR.2.2.1 _ (by rw [rC3 hR]; decide))) (hAD.2.2.2.2.2.2.2 _ (fun z => by have := hML.2.2.1; rw [← z, rC3 hR] at this; cases this) (fun z => by
      have := hAD.1.2.2.2.1
      rw [← z, (hAD.2.2.2.2.2.1.2 _ (by rw [v1]; have := hR.2.2.1 (L.1 3) (by rw [rC3 hR]; decide); omega)).1, (v2.2 _ (hR.2.2.1 _ (by rw [rC3 hR]; decide))).1, rT3 hR] at this
      cases this))
    refine okU_eq (gfR_v (by show zT u7 (L.1 3) = 1; rw [s3.1]; exact rT3 hR) (by show zR u7 (L.1 3) 7 = _; rw [s3.2.2.2.1]; exact rR3_7 hR)) (okU_eq (ztg_e hAD.1.1) (okU_eq (J_size hAD.1) ?_))
    exact okU_some (by simp) (by omega) (by omega)
  refine sim_okU hcls (b := ((n : Int) + 1, ma (ms m 81 (m.1 81 + 1)) 82 (n + 1) 0)) ?_ ?_
  · show (some (ms m 81 (m.1 81 + 1))).bind _ = _
    rw [Option.bind_some, mast_e (n + 1) (by rw [ms_1, if_pos rfl]; omega) (by omega) (by omega), Option.bind_some]
    show some ((ms m 81 (m.1 81 + 1)).1 81, _) = _
    rw [ms_1, if_pos rfl, hn]
  rintro a c s rfl hc1 hs1
  refine ⟨rfl, hc1, hs1, mkL (fun r => if 5008 + 8 * n ≤ r ∧ r < 5016 + 8 * n then zN u + (r - (5008 + 8 * n)) else if r = 153 then b' else L.1 r) L (zN u) (zN (polU u)) b' 153 (fun a => 5008 + 8 * n + (a - zN u)), ?_, ?_⟩
  · show (if 5008 + 8 * n ≤ 3 ∧ 3 < 5016 + 8 * n then _ else if 3 = 153 then b' else L.1 3) = L.1 3
    rw [if_neg (by omega), if_neg (by decide)]
  · have hf : ∀ q, OR m q → q ≠ 153 → (fun r => if 5008 + 8 * n ≤ r ∧ r < 5016 + 8 * n then zN u + (r - (5008 + 8 * n)) else if r = 153 then b' else L.1 r) q = L.1 q := by
      intro q hq hne
      have k0 := hK.2.1
      have e0 := hE.2.1
      have w0 := hW.2.1
      show (if 5008 + 8 * n ≤ q ∧ q < 5016 + 8 * n then _ else if q = 153 then b' else L.1 q) = L.1 q
      rw [if_neg (by unfold OR at hq; omega), if_neg hne]
    obtain ⟨r1, r2, r3, r4, r5, r6, r7, r8, r9, r10, r11, r12⟩ := grow_rest (f := fun r => if 5008 + 8 * n ≤ r ∧ r < 5016 + 8 * n then zN u + (r - (5008 + 8 * n)) else if r = 153 then b' else L.1 r) (nw := fun a => 5008 + 8 * n + (a - zN u)) h0 hML (by simp) v2 v3 hAD hf
    have rML := grow_ML (f := fun r => if 5008 + 8 * n ≤ r ∧ r < 5016 + 8 * n then zN u + (r - (5008 + 8 * n)) else if r = 153 then b' else L.1 r) (nw := fun a => 5008 + 8 * n + (a - zN u)) (el' := fun i => (fun r => if 5008 + 8 * n ≤ r ∧ r < 5016 + 8 * n then zN u + (r - (5008 + 8 * n)) else if r = 153 then b' else L.1 r) (5008 + 8 * i)) hR hML (by decide) v2 v3 hAD (hf 107 (by unfold OR; omega) (by decide)) (by show (if _ then _ else if 153 = 153 then b' else _) = b'; rw [if_neg (by omega), if_pos rfl]) (fun i hi => by show (if _ then _ else if _ then b' else _) = _; rw [if_neg (by omega), if_neg (by omega)]) (by show (if _ then _ else _) = _; rw [if_pos (by omega)]; omega)
    generalize hLL : mkL (fun r => if 5008 + 8 * n ≤ r ∧ r < 5016 + 8 * n then zN u + (r - (5008 + 8 * n)) else if r = 153 then b' else L.1 r) L (zN u) (zN (polU u)) b' 153 (fun a => 5008 + 8 * n + (a - zN u)) = L' at *
    have hL1 : ∀ r, L'.1 r = if 5008 + 8 * n ≤ r ∧ r < 5016 + 8 * n then zN u + (r - (5008 + 8 * n)) else if r = 153 then b' else L.1 r := fun r => by rw [← hLL]; rfl
    have hL2 : ∀ j, j < 5 → L'.2 (zN u + j) = 5008 + 8 * n + j := fun j hj => by
      rw [← hLL]
      show (if zN u + j < zN u then _ else if zN u + j < zN (polU u) then 5008 + 8 * n + (zN u + j - zN u) else _) = _
      rw [if_neg (by omega), if_pos (by rw [v1]; omega)]
      omega
    have m1 : ∀ k, k ≠ 81 → (ma (ms m 81 (m.1 81 + 1)) 82 (n + 1) 0).1 k = m.1 k := fun k hk => by rw [ma_1, ms_1, if_neg hk]
    have m2 : ∀ k, k ≠ 82 → (ma (ms m 81 (m.1 81 + 1)) 82 (n + 1) 0).2 k = m.2 k := fun k hk => by rw [ma_o hk, ms_2]
    have m81 : (ma (ms m 81 (m.1 81 + 1)) 82 (n + 1) 0).1 81 = (n : Int) + 1 := by rw [ma_1, ms_1, if_pos rfl, hn]
    have m82 : ∀ i, (ma (ms m 81 (m.1 81 + 1)) 82 (n + 1) 0).2 82 i = if i = n + 1 then 0 else m.2 82 i := fun i => by rw [ma_s, ms_2]
    generalize ma (ms m 81 (m.1 81 + 1)) 82 (n + 1) 0 = m' at *
    have hz : ∀ w, slc m' w = slc m w := fun w => slc_of (fun j q1 q2 => m2 j (by omega))
    refine ⟨r1, RS_mm (fun k hk => m1 k (by rintro rfl; revert hk; decide)) r2, RA_mm (fun k hk => m1 k (by rintro rfl; revert hk; decide)) (fun k hk => m2 k (by rintro rfl; revert hk; decide)) r3, RJ_mm (fun k hk => m1 k (by rintro rfl; revert hk; decide)) (fun k hk => m2 k (by rintro rfl; revert hk; decide)) r4, ?_, ?_, ?_, ?_⟩
    · refine RW_mm (m := m) (m1 11 (by decide)) (fun w _ _ => hz w) ⟨hW.1, hW.2.1, ?_, fun w q1 q2 => ⟨(hW.2.2.2 w q1 q2).1, ?_⟩⟩
      · have := r5 (by decide); rw [← hLL] at this ⊢; exact this
      · have := r9 w q1 q2; rw [← hLL] at this ⊢; exact this
    · refine RE_mm (m := m) (m1 11 (by decide)) (m1 71 (by decide)) (fun k hk => m2 k (by rintro rfl; revert hk; decide)) (fun w _ _ => hz w) ⟨hE.1, hE.2.1, ?_, r10⟩
      have := r6 (by decide); rw [← hLL] at this ⊢; exact this
    · unfold RP
      rw [m81]
      refine ⟨by omega, by omega, ?_, fun p q1 q2 => ?_⟩
      · rw [show ((n : Int) + 1).toNat = n + 1 by omega]
        rw [← hLL] at rML ⊢
        exact rML
      · by_cases hpn : p = n + 1
        · subst hpn
          have a0 : L'.1 (5000 + 8 * (n + 1)) = zN u := by rw [hL1, if_pos (by omega)]; omega
          have aj : ∀ j, j < 4 → L'.1 (5001 + 8 * (n + 1) + j) = zN u + 1 + j := fun j hj => by rw [hL1, if_pos (by omega)]; omega
          have tg7 : ∀ a, a < zN (polU u) → zT u7 a = zT (polU u) a ∧ zL u7 a = zL (polU u) a := fun a ha => hAD.2.2.2.2.2.1.2 a ha
          have s7 : ∀ j, j < 5 → zT (polU u) (zN u + j) ≠ 105 → sam (polU u) u7 (zN u + j) := by
            intro j hj ht
            refine hAD.2.2.2.2.2.2.2 _ (fun z => ?_) (fun z => ?_)
            · have := hML.1.2.2.2.2.2.2.1; omega
            · have := hAD.1.2.2.2.1
              rw [← z, (tg7 _ (by rw [v1]; omega)).1] at this
              exact ht this
          have s0 := s7 0 (by omega) (by show zT (polU u) (zN u) ≠ 105; rw [v4]; decide)
          have s0 : sam (polU u) u7 (zN u) := s0
          unfold PE
          rw [a0, m82, if_pos rfl]
          refine ⟨by rw [s0.1]; exact v4, hG, ?_, by rw [s0.2.2.1]; exact v5, by omega, by omega, fun j hj => ?_, fun k hk => by omega⟩
          · have := hL2 0 (by omega)
            rw [Nat.add_zero] at this
            rw [this]; omega
          · obtain ⟨z1, z2, z3⟩ := v6 j hj
            have sj := s7 (1 + j) (by omega) (by rw [← Nat.add_assoc, z2]; decide)
            rw [← Nat.add_assoc] at sj
            rw [aj j hj]
            refine ⟨by rw [s0.2.2.2.1]; exact z1, by rw [sj.1]; exact z2, by rw [sj.2.1]; exact z3, by omega, ?_⟩
            have := hL2 (1 + j) (by omega)
            rw [← Nat.add_assoc] at this
            rw [this]; omega
        · refine PE_mm (m := m) (by rw [m1 11 (by decide)]; exact Int.le_refl _) (by rw [m82, if_neg hpn]) (fun k j hk _ _ => by rw [m2 k (by rcases hk with rfl | rfl | rfl | rfl <;> decide)]) (r11 p q1 (by omega))
    · refine RK_mm (m := m) (m1 87 (by decide)) (by rw [m81]; omega) (by rw [m1 71 (by decide)]; exact Int.le_refl _) (fun k hk => m2 k (by rintro rfl; revert hk; decide)) ⟨hK.1, hK.2.1, ?_, r12, hK.2.2.2.2⟩
      have := r8 (by decide); rw [← hLL] at this ⊢; exact this
