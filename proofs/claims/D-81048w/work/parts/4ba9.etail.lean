/-! THE CALL endorse: behind the loop -/
noncomputable def TLE (G : CG) (o3 N : Nat) : (Nat ⊕ Unit) × Sg → Option ((Int × Sg) × Nat × Nat) := fun q20 => tel q20.1 (fun e21 => (ztg q20.2 9 (some e21)).bind fun b28 => f0_endorse_b78 G (some o3) (some e21) q20.2) fun x22 => (ztg q20.2 1 (some o3)).bind fun b23 => bdU (f0_finish G (some b23) (some N) q20.2) fun q24 => tel q24.1 (fun e25 => (ztg q24.2 9 (some e25)).bind fun b27 => f0_endorse_b78 G (some o3) (some e25) q24.2) fun x26 => f0_endorse_b85 G (some o3) x26 q24.2
/-- the layout behind the reading -/
def LGw (L : Ly) (N Z : Nat) : Ly := (L.1, fun q => if q < N then L.2 q else if q = N ∨ q = N + 7 ∨ Z ≤ q then 0 else 1)
/-- the old wording's parts in the heap u0 -/
def OLD (G : CG) (L : Ly) (u0 : Sg) (W : Wv) (el1 el2 el3 oel el5 : Nat → Nat) : Prop := (∀ f, f < nF W → FA L u0 W (el1 f) f) ∧ (∀ k, k < nM W → L.2 (el2 k) = 1 ∧ zT u0 (el2 k) = 29 ∧ NM (zI u0 (el2 k) 1120) (W 20 k)) ∧ (∀ k, k < nM W → CA (FW L u0 W) G u0 100 (el3 k) (seg W (W 21 k) (W 22 k))) ∧ (∀ k, k < nC W → L.2 (oel k) = 1 ∧ zT u0 (oel k) = 17 ∧ zI u0 (oel k) 640 = W 24 k ∧ zI u0 (oel k) 642 = W 26 k - W 25 k ∧ ∃ c, zR u0 (oel k) 641 = some c ∧ CA (FW L u0 W) G u0 100 c (seg W (W 25 k) (W 26 k))) ∧ ∀ k, k < nP W → L.2 (el5 k) = 1 ∧ zT u0 (el5 k) = 18 ∧ zI u0 (el5 k) 680 + 15 = W 28 k ∧ zI u0 (el5 k) 681 = W 29 k ∧ ((zR u0 (el5 k) 682 = none ∧ W 30 k = W 31 k) ∨ (W 30 k < W 31 k ∧ ∃ c, zR u0 (el5 k) 682 = some c ∧ CA (FW L u0 W) G u0 100 c (seg W (W 30 k) (W 31 k))))
theorem e_tail {G : CG} {L : Ly} {u0 t2 t : Sg} {m m' : Mu} {r w n N2 N3 kl kb ch ml mb nc bE : Nat} {W : Wv} {κ ec el1 el2 el3 oel el5 : Nat → Nat} (h4 : RC G L u0 (ms m 10 (-1))) (hn : m.1 11 = (n : Int)) (hn11 : n ≤ 11) (hw : 1 ≤ w ∧ w ≤ n) (hWm : slc m w = W) (hM : WM W) (hO : OLD G L u0 W el1 el2 el3 oel el5) (hE : GS G 6 = some bE ∧ bE < G0 G ∧ zL t bE = 0) (hTK : TKD G t2 (zN u0) bE W el1 el2 el3 el5) (hN2 : zN u0 + 8 ≤ N2) (hN23 : N2 ≤ N3) (hz2 : zN u0 + 8 ≤ zN t2 ∧ zN t2 ≤ N2) (hEF : EF G L r (zN u0) w W oel kl kb ch ml N2 N3 t2 κ mb ec t m' nc) (h40 : m'.1 4 = 0) (hr290 : zR t r 290 = some (L.1 3)) (hF : FRo (zN u0) u0 t) (hl : LA t (zN u0 + 4) bE 0 ∧ LW G t (zN u0 + 4) bE) (hl7 : LA t (zN u0 + 7) bE 0 ∧ LW G t (zN u0 + 7) bE) (hfr : mfr SF7 AF7 m m') (hsl : ∀ v, 1 ≤ v → v ≤ n → slc m' v = slc m v) : sim (bdU (KEe G r kl ml t) (TLE G (L.1 3) (zN u0))) (m5_endorse_b283 w m') (aftU G L 60 17700) := by
  obtain ⟨hEN, hB, hst, h58, hsum⟩ := hEF
  obtain ⟨⟨hCX, h287⟩, ⟨h46e, h46, hJ⟩, h56, h3n⟩ := hEN
  obtain ⟨⟨⟨b1, b2⟩, b3, ⟨b4, b5, b6⟩, b7⟩, bκ, ⟨kc1, kc2, kc3, kc4, kc5⟩, -, ⟨mm1, mm2, mm3, mm4, mm5, mm6⟩, hQ⟩ := hB
  obtain ⟨hO1, hO2, hO3, hO4, hO5⟩ := hO
  obtain ⟨N, hN⟩ : ∃ N, N = zN u0 := ⟨_, rfl⟩
  rw [← hN] at hTK hN2 hF hl hl7 hCX hz2 ⊢
  have hR0 := h4.1
  have hRL : ∀ q, L.2 q ≠ 0 → q < N := fun q hq => by rw [hN]; exact hR0.2.2.1 q hq
  have hR := hCX.1
  have htx := hR.2.2.2.1.2.2
  have h5b := hR.2.2.1.2.2
  have hnc : nc ≤ 171 := by omega
  have hM1 := hM.1
  have c24 : nC W ≤ 24 := by unfold nC; omega
  have e23 : W 23 0 = (nC W : Int) := by unfold nC; omega
  have f8 := (nF_e hM).2
  have e12 := (nF_e hM).1
  have e19 : W 19 0 = (nM W : Int) := by unfold nM; omega
  have m12 : nM W ≤ 12 := by unfold nM; omega
  have hwW : slc m' w = W := by rw [hsl w hw.1 hw.2]; exact hWm
  have h8 : m'.1 8 = 0 := hR.2.2.2.2.2
  have h11 : m'.1 11 = (n : Int) := by rw [hfr.1 11 (by decide)]; exact hn
  have e2 : m'.1 2 = m.1 2 := hfr.1 2 (by decide)
  have hp5 : m'.1 5 = m'.1 2 := by
    rcases hR.2.2.1.2.2.2.2.2 with z | z
    · exact z.2.2
    · have := z.2
      rcases this with q | q | q | q
      · omega
      · omega
      · have := q.2.1; omega
      · have := q.2.1; omega
  have hg1 := hF.1.1
  have N3t : N3 ≤ zN t := b3
  -- the new clauses
  have hQ5 : ∀ j, j < nc → 0 ≤ m'.2 54 j ∧ m'.2 54 j < m'.2 55 j ∧ m'.2 55 j ≤ m'.1 46 := fun j hj => by
    obtain ⟨-, -, -, -, -, c, -, q, -⟩ := hQ j hj
    exact q
  -- what the twin joins
  have sW : ∀ k, k < nC W → 0 ≤ W 25 k ∧ W 25 k ≤ W 26 k := fun k hk => by
    have q := (hM.2.2.2.1 k hk).2.2; have q1 := q.1; have q2 := q.2.1; omega
  have eO := szO_e (W := W) (m := m') (nc := nc) (fun j hj => by have := hQ5 j hj; omega) (nC W) hst sW
  have eNn := szN_e (m := m') (nc := nc) (fun j hj => by have := hQ5 j hj; omega) nc (Nat.le_refl _)
  have hEJ : EJ m' w nc W := by
    refine ⟨⟨hwW, hM, by omega⟩, ⟨h56, by omega, h46, by omega⟩, hst, fun j hj => by have := hQ5 j hj; omega, h58, ?_⟩
    push_cast
    rw [eO, eNn]; omega
  have hJoin := m_joinE hEJ (w := n + 1) (by omega) (by omega)
  -- what the class's end makes of it
  have tO : ∀ k, k < nC W → zT t (oel k) = 17 ∧ oel k < N ∧ zI t (oel k) 642 = W 26 k - W 25 k := fun k hk => by
    obtain ⟨q1, q2, q3, q4, -⟩ := hO4 k hk
    have qN := hRL (oel k) (by omega)
    have s := hF.2 _ qN
    exact ⟨by rw [s.1]; exact q2, qN, by rw [s.2.2.1]; exact q4⟩
  have tE : ∀ j, j < nc → zT t (ec j) = 17 ∧ N3 ≤ ec j ∧ ec j < zN t ∧ zI t (ec j) 642 = m'.2 55 j - m'.2 54 j := fun j hj => by
    obtain ⟨q1, q2, q3, q4, q5, -⟩ := hQ j hj
    have := bκ (ec j) (by omega)
    exact ⟨q2, this.1, this.2, q5⟩
  have hAl0 : AL2 (fun c q => zI t c 642 = (q.2.length : Int)) (ceO oel ec m' (nC W) ++ ceN ec m' nc) (csO W m' (nC W) ++ csN m' nc) := by
    have hold : ∀ k, k < nC W → zI t (oel k) 642 = (((seg W (W 25 k) (W 26 k)).map w8n).length : Int) := fun k hk => by
      rw [(tO k hk).2.2, List.length_map, seg_len]; have := sW k hk; omega
    have hnew : ∀ j, j < nc → zI t (ec j) 642 = ((newC m' j).2.length : Int) := fun j hj => by
      rw [(tE j hj).2.2.2, newC_len (by have := hQ5 j hj; omega)]
    exact AL2_app (AL2_O hold hnew hst) (AL2_N hnew nc (Nat.le_refl _))
  obtain ⟨cl, hcl⟩ : ∃ cl, cl = ceO oel ec m' (nC W) ++ ceN ec m' nc := ⟨_, rfl⟩
  obtain ⟨cs, hcs⟩ : ∃ cs, cs = csO W m' (nC W) ++ csN m' nc := ⟨_, rfl⟩
  have hlenE : cl.length = cntE m' nc W := by
    rw [hcl, AL2_len hAl0]; unfold cntE; rw [List.length_append]
  obtain ⟨T, hT⟩ : ∃ T, T = totE m' nc W := ⟨_, rfl⟩
  have i248 : zI t N 248 = lsm (fun k => W 22 k - W 21 k) (nM W) + lsm (fun k => W 31 k - W 30 k) (nP W) := by
    rw [(b2 N (by omega)).2.2.1]; exact hTK.2.2.2.2.2.2.1.2.2
  have eT : T = zI t N 248 + lsm (fun k => zI t (((ceO oel ec m' (nC W) ++ ceN ec m' nc)[k]?).getD 0) 642) (ceO oel ec m' (nC W) ++ ceN ec m' nc).length := by
    rw [szC_lsm (f := fun a => zI t a 642) (fun a b h => h) hAl0, i248, hT, szC_a]
    unfold totE
    omega
  have sN := b2 N (by omega)
  have rT : zT t r = 8 := b6
  have r286 : zR t r 286 = some N := hCX.2.2.1.2
  have hTx := hR.1.2.1
  have l3N : L.1 3 < N := hRL _ (by rw [rC3 hR0]; decide)
  have hTb : -100000 ≤ T ∧ T ≤ 100000 := by
    have sM : ∀ k, k < nM W → 0 ≤ W 22 k - W 21 k ∧ W 22 k - W 21 k ≤ 300 := fun k hk => by
      have q1 := (hM.2.2.1 k hk).1; have q2 := (hM.2.2.1 k hk).2.1; have q3 := (hM.2.2.1 k hk).2.2.1; omega
    have sP : ∀ k, k < nP W → 0 ≤ W 31 k - W 30 k ∧ W 31 k - W 30 k ≤ 300 := fun k hk => by
      rcases (hM.2.2.2.2.1 k hk).2.2.2.2 with q | q
      · omega
      · have q1 := q.2.1; have q2 := q.2.2.1; have q3 := q.2.2.2.1; omega
    have bd : ∀ (f : Nat → Int) (n : Nat), (∀ k, k < n → 0 ≤ f k ∧ f k ≤ 300) → 0 ≤ lsm f n ∧ lsm f n ≤ 300 * (n : Int) := by
      intro f n
      induction n with
      | zero => intro _; exact ⟨Int.le_refl _, Int.le_refl _⟩
      | succ n ih =>
        intro hf
        rw [lsm_s]
        have := ih (fun k hk => hf k (by omega))
        have := hf n (by omega)
        omega
    have b1' := bd _ _ sM
    have b2' := bd _ _ sP
    have p24 : nP W ≤ 24 := by unfold nP; omega
    have b3' := bd (fun k => if m'.2 57 k = -1 then W 26 k - W 25 k else 0) (nC W) (fun k hk => by
      have := sW k hk
      have := (hM.2.2.2.1 k hk).2.2.2.2.1
      split <;> omega)
    have hs := hEJ.2.2.2.2.2
    rw [hT]; unfold totE
    rw [hs]; omega
  have kN4 : kl ≠ N + 4 ∧ ml ≠ N + 4 := ⟨by omega, by omega⟩
  have hke : ∀ k x, k < nC W → kvE oel ec k (m'.2 57 k) = some x → zT t x = 17 ∧ x < zN t := fun k x hk hx => by
    unfold kvE at hx
    by_cases z1 : m'.2 57 k = -1
    · rw [if_pos z1] at hx
      cases hx
      exact ⟨(tO k hk).1, by have := (tO k hk).2.1; omega⟩
    · rw [if_neg z1] at hx
      by_cases z2 : m'.2 57 k < 0
      · rw [if_pos z2] at hx; cases hx
      · rw [if_neg z2] at hx
        cases hx
        have := hst k hk
        have q := tE (m'.2 57 k).toNat (by omega)
        exact ⟨q.1, q.2.2.1⟩
  have hmc : ∀ x ∈ ceN ec m' nc, zT t x = 17 ∧ x < zN t := by
    have : ∀ k, k ≤ nc → ∀ x ∈ ceN ec m' k, zT t x = 17 ∧ x < zN t := by
      intro k
      induction k with
      | zero => intro _ x hx; cases hx
      | succ k ih =>
        intro hk x hx
        simp only [ceN] at hx
        rcases List.mem_append.mp hx with y | y
        · exact ih (by omega) x y
        · by_cases z : m'.2 58 k = 0
          · rw [if_pos z] at y
            rw [List.mem_singleton.mp y]
            have q := tE k (by omega)
            exact ⟨q.1, q.2.2.1⟩
          · rw [if_neg z] at y; cases y
    exact this nc (Nat.le_refl _)
  have hkend := e_kend (G := G) (t := t) (N := N) (r := r) (o := L.1 3) (kl := kl) (kb := kb) (ml := ml) (mb := mb) (bE := bE) (n := nC W) (K := 0) (oel := oel) (ec := ec) (m := m') (mo := ceN ec m' nc) (T := T) (P := m'.1 2) ⟨rT, r286, hR.2.1.2.1, hr290⟩ ⟨by rw [sN.1]; exact hTK.1, by rw [sN.2.2.2.1, hTK.2.1]; unfold fE; simp, by omega, by have := hR0.2.2.2.2.1; omega⟩ kc1 kc5 c24 hke hl.1 hl.2 hE.2.2 kN4 hR.2.1.1 mm1 mm6 hmc (by have := ceN_len (ec := ec) (m := m') nc; omega) eT hTb ⟨hR.2.1.2.2.1, hTx.1, hTx.2.1, by omega⟩
  rw [← hcl] at hkend
  have fr10 : ∀ {m''}, mfr SF7 AF7 m m'' → mfr (2 :: 10 :: SF7) AF7 (ms m 10 (-1)) m'' := fun {m''} q => ⟨fun k hk => by
    simp only [List.mem_cons, not_or] at hk
    rw [ms_1, if_neg hk.2.1]; exact q.1 k hk.2.2, fun k hk => q.2 k hk⟩
  have hn10 : (ms m 10 (-1)).1 11 = (n : Int) := by rw [ms_1, if_neg (by decide)]; exact hn
  have e283 : m5_endorse_b283 w m' = (m5_join (n + 1 : Nat) w m').bind fun u1 => m5_endorse_b303 (n + 1 : Nat) u1 := by
    unfold m5_endorse_b283
    rw [h8, if_pos (by decide), h11]; rfl
  rcases hkend with ⟨hbad, e, t', cc, nn, k1, k2, k3, ⟨k4, k5, k6, k7⟩, k8, k9⟩ | ⟨g1, g2, t', b', cc, nn, k1, k2, k3, k4, k5, ⟨k6, k7, k8⟩, k9, k10, k11⟩
  · -- too many clauses or nodes
    have hj : m5_join (n + 1 : Nat) w m' = (m5_wrong 6 m').bind fun u1 => some u1 := by
      rcases hJoin with ⟨-, hj⟩ | ⟨q1, q2, -⟩
      · exact hj
      · exfalso; rw [← hlenE] at q1; rw [← hT] at q2; omega
    obtain ⟨m2, em, hm, hmo, hm2⟩ := m_wrong h8 6
    rw [e283, hj, em, Option.bind_some, Option.bind_some, eb303, k1, bdU_e]
    show sim (Option.map _ ((ztg t' 9 (some e)).bind _)) _ _
    rw [ztg_e k4, Option.bind_some, eb78]
    have hRC : RC G L t' (ms m 10 (-1)) := FRo_RC h4 ⟨gro_tr hF.1 k8, fun q hq => sam_tr (hF.2 q (by omega)) (k9 q (by omega) (by omega) (by omega))⟩
    have fr2 : mfr SF7 AF7 m m2 := mfr_tr hfr (mfr_up hm.2.2 (by decide) (by decide))
    refine aftU_mono (end_bad (w := ((n + 1 : Nat) : Int)) (C := cc) (S := nn) hRC k4 k5 k6 (by omega) hm.1 (by rw [hm.2.1, hp5]) (fr10 fr2) (fun v a b => ?_) (Nat.le_refl _) (Nat.le_refl _)) (by omega) (by omega)
    have : slc m2 v = slc m' v := by funext x y; unfold slc; rw [hm2]
    rw [this, hsl v a (by rw [hn10] at b; omega)]; rfl
  · -- the new wording
    obtain ⟨mB, TT, j1, j2, j3, j4, j5⟩ : ∃ (mB : Mu) (TT : Nat), m5_join (n + 1 : Nat) w m' = (m5_finish (n + 1 : Nat) mB).bind (fun u => some u) ∧ mpl (n + 1) KA7 m' mB ∧ (∀ k ∈ KW, ∀ j, j < wid k → slc mB (n + 1) k j = W k j) ∧ BLT mB (n + 1) (rowN W 21 22 (nM W)) (csO W m' (nC W) ++ csN m' nc) (rowN W 30 31 (nP W)) TT ∧ (TT : Int) = totE m' nc W := by
      rcases hJoin with ⟨q, -⟩ | ⟨-, -, q⟩
      · exfalso; rw [← hlenE, ← hT] at q; omega
      · exact q
    have hg' := gro_tr hF.1 k4
    have sU : ∀ q, q < N → sam u0 t' q := fun q hq => sam_tr (hF.2 q (by omega)) (k5 q (by omega) (by omega) (by omega))
    obtain ⟨LG, hLG⟩ : ∃ LG, LG = LGw L N (zN t') := ⟨_, rfl⟩
    have lg1 : ∀ q, q < N → LG.2 q = L.2 q := fun q hq => by rw [hLG]; exact if_pos hq
    have lg2 : ∀ q, N + 1 ≤ q → q ≠ N + 7 → q < zN t' → LG.2 q = 1 := fun q q1 q2 q3 => by
      rw [hLG]; show (if q < N then L.2 q else if q = N ∨ q = N + 7 ∨ zN t' ≤ q then 0 else 1) = 1
      rw [if_neg (by omega), if_neg (by omega)]
    have lg0 : ∀ q, (q = N ∨ q = N + 7) → LG.2 q = 0 := fun q hq => by
      rw [hLG]; show (if q < N then L.2 q else if q = N ∨ q = N + 7 ∨ zN t' ≤ q then 0 else 1) = 0
      rw [if_neg (by omega), if_pos (by omega)]
    have lgZ : ∀ q, LG.2 q ≠ 0 → q < zN t' := fun q hq => by
      rw [hLG] at hq
      have hq : (if q < N then L.2 q else if q = N ∨ q = N + 7 ∨ zN t' ≤ q then 0 else 1) ≠ 0 := hq
      have := hg'.1
      by_cases z : q < N
      · omega
      · rw [if_neg z] at hq
        by_cases z2 : q = N ∨ q = N + 7 ∨ zN t' ≤ q
        · rw [if_pos z2] at hq; exact absurd rfl hq
        · omega
    have LG1 : LG.1 = L.1 := by rw [hLG]; rfl
    have frz0 : frz L LG u0 t' := ⟨hg', fun q hq => ⟨by rw [lg1 q (hRL q (by omega))]; exact hq, sU q (hRL q (by omega))⟩⟩
    have hRCf : RC G LG t' (ms m 10 (-1)) := RC_ext h4 ⟨hg', fun q hq => lg1 q (hRL q (by omega)), lgZ⟩ (fun q hq => sU q (hRL q hq)) (fun q _ => by rw [LG1])
    have k41 := k4.1
    -- clauses in the heap
    have hAl : AL2 (QE G LG t' W) cl cs := by
      have hold : ∀ k, k < nC W → QE G LG t' W (oel k) (W 24 k, (seg W (W 25 k) (W 26 k)).map w8n) := fun k hk => by
        obtain ⟨q1, q2, q3, q4, c, q5, q6⟩ := hO4 k hk
        obtain ⟨z0, z⟩ := frz0.2 _ q1
        have sg := (hM.2.2.2.1 k hk)
        have okk : ∀ q ∈ seg W (W 25 k) (W 26 k), okN (nF W) (nM W) q := fun q hq => by have := sg.2.2.2.2.2.2 q hq; rw [e12, e19] at this; exact this
        have := sW k hk
        exact ⟨⟨z0, by rw [z.1]; exact q2, by rw [z.2.2.1]; exact q3, by rw [z.2.2.1, q4, List.length_map, seg_len]; omega, c, by rw [z.2.2.2.1]; exact q5, CA_w8 (by omega) (show ((nM W : Nat) : Int) ≤ 12 by omega) _ _ _ (CA_k frz0 q6) okk⟩, ⟨sg.1, sg.2.1⟩, isC_w8 (by omega) (show ((nM W : Nat) : Int) ≤ 12 by omega) okk sg.2.2.2.2.2.1, okN_map (by omega) (by omega) okk⟩
      have hnew : ∀ j, j < nc → QE G LG t' W (ec j) (newC m' j) := fun j hj => by
        obtain ⟨q1, q2, q3, q4, q5, c, q6, q7, q8, q9⟩ := hQ j hj
        have bj := bκ (ec j) (by omega)
        have s := k5 (ec j) bj.2 (by omega) (by omega)
        have hCA : CA (FW LG t' W) G t' 100 c (sgNw m' (m'.2 54 j) (m'.2 55 j)) := CA_sam (fun q hq => by
          have bq := bκ q (by have := hq.1; omega)
          have sq := k5 q bq.2 (by omega) (by omega)
          exact ⟨⟨lg2 q (by omega) (by omega) (by omega), by rw [sq.1, sq.2.2.1]; exact fun z => (hq.2 z).2⟩, sq⟩) k4 _ _ _ q8
        exact ⟨⟨lg2 _ (by omega) (by omega) (by omega), by rw [s.1]; exact q2, by rw [s.2.2.1]; exact q3, by rw [s.2.2.1, q5, newC_len (by omega)], c, by rw [s.2.2.2.1]; exact q6, CA_w8 (by omega) (show ((nM W : Nat) : Int) ≤ 12 by omega) _ _ _ hCA q9⟩, q4, isC_w8 (by omega) (show ((nM W : Nat) : Int) ≤ 12 by omega) q9 (CA_isC _ _ _ q8), okN_map (by omega) (by omega) q9⟩
      rw [hcl, hcs]
      exact AL2_app (AL2_O hold hnew hst) (AL2_N hnew nc (Nat.le_refl _))
    rw [← hcs] at j4
    have hcsl : cs.length ≤ 24 := by rw [← AL2_len hAl]; exact g1
    obtain ⟨bj1, bj2, bj3, bj4⟩ := BLT_fin hM j3 j4 (by omega) hcsl (AL2_mem (fun a b h => h.2) hAl)
    obtain ⟨W2, hW2⟩ : ∃ W2, W2 = slc mB (n + 1) := ⟨_, rfl⟩
    rw [← hW2] at bj1 bj2 bj3 bj4
    have hbEN : bE < N := by have := hR0.2.2.2.2.1; omega
    have hR4 := hR0.2.2.2.2.1
    have hTK' : TKD G t' N bE W el1 el2 el3 el5 := TKD_k hTK (gro_tr b1 k4) (fun q q1 q2 q3 => sam_tr (b2 q (by omega)) (k5 q (by omega) q2 q3)) ⟨k6, by rw [k7]; exact sN.2.2.2.1, fun j hj => by rw [k8 j hj, sN.2.2.1]⟩ ⟨by omega, by omega⟩ hz2.1
    have hbE1 : LG.2 bE = 1 := by rw [lg1 bE hbEN]; exact hR0.2.2.2.1 bE hE.2.1
    have hWR : WR G LG t' N W2 := by
      refine e_WR (bE := bE) (b4 := b') (cs := cs) (cl := cl) (e1 := el1) (e2 := el2) (e3 := el3) (e5 := el5) hM bj1 (fun j hj => ?_) hTK' hbE1 (by omega) lg2 (fun f hf => FA_k frz0 (hO1 f hf)) (fun k hk => ?_) (fun k hk => CA_k frz0 (hO3 k hk)) (fun k hk => ?_) ⟨k9, by omega, k11⟩ hAl
      · rw [hW2, ← hWm]
        unfold slc
        rw [if_neg (show ¬ j < wid 14 by show ¬ j < 8; omega), if_neg (show ¬ j < wid 14 by show ¬ j < 8; omega)]
      · obtain ⟨q1, q2, q3⟩ := hO2 k hk
        obtain ⟨z0, z⟩ := frz0.2 _ q1
        exact ⟨z0, by rw [z.1]; exact q2, by rw [z.2.2.1]; exact q3⟩
      · obtain ⟨q1, q2, q3, q4, q5⟩ := hO5 k hk
        obtain ⟨z0, z⟩ := frz0.2 _ q1
        refine ⟨z0, by rw [z.1]; exact q2, by rw [z.2.2.1]; exact q3, by rw [z.2.2.1]; exact q4, ?_⟩
        rw [z.2.2.2.1]
        rcases q5 with q5 | ⟨q5, c, q6, q7⟩
        · exact Or.inl q5
        · exact Or.inr ⟨q5, c, q6, CA_k frz0 q7⟩
    have hl7N := hl7.1.2.2.2.2.2.2.1
    have sbE := k5 bE (by omega) (by omega) (by omega)
    have s7 := k5 (N + 7) hl7N (by omega) (by omega)
    have hl7' : LA t' (N + 7) bE 0 := LA_sam hl7.1 s7 sbE k4.1 (fun x hx => (k4.2 x hx).1)
    have hz7 : zL t' bE = 0 := by rw [sbE.2.1]; exact hE.2.2
    have hFH : FH G LG t' N W2 (N + 7) bE := ⟨bj2, bj3, hWR, ⟨lg0 N (Or.inl rfl), by omega, by omega⟩, ⟨by rw [hTK'.2.1]; unfold fE; simp, hl7', ⟨hl7.2.1, fun _ => hE.1, fun q => by omega⟩, lg0 _ (Or.inr rfl), by omega, by omega, fun q => by omega⟩, bj4⟩
    have mB8 : mB.1 8 = 0 := by rw [j2.1]; exact h8
    obtain ⟨ns, as, mf, y1, y2, y3, y4, y5⟩ := m_finish (m := mB) (w := n + 1) hW2.symm (by omega) bj2 bj3 mB8
    have frc : mfr SF7 AF7 m' mB := ⟨fun k _ => by rw [j2.1], fun k hk => j2.2.1 k (by
      simp only [AF7, KA7, List.mem_cons, List.not_mem_nil, or_false, not_or] at hk ⊢; omega)⟩
    have frf : mfr SF7 AF7 m mf := mfr_tr hfr (mfr_tr frc (mfr_up y3 (by decide) (by decide)))
    have slf : ∀ v, 1 ≤ v → v ≤ n → slc mf v = slc m v := fun v v1 v2 => by rw [y4 v (by omega), slc_mpl_o j2 (by omega), hsl v v1 v2]
    have T3 : zT t' (L.1 3) = 1 := by have := rT3 hRCf.1; rw [LG1] at this; exact this
    have hg3 : G0 G ≤ L.1 3 := rG3 hR0
    rw [e283, j1, y1, Option.bind_some, Option.bind_some, eb303, k1, bdU_e]
    show sim (Option.map _ ((ztg t' 1 (some (L.1 3))).bind _)) _ _
    rw [ztg_e T3, Option.bind_some]
    rcases y5 with ⟨p1, p2, p3⟩ | ⟨p1, p2, p3, p4, p5, p6⟩
    · obtain ⟨e, t'', z1, z2, z3, z4, z5, z6⟩ := c_finA hRCf hFH y2 p1
      have z1 : f0_finish G (some (L.1 3)) (some N) t' = some ((.inl e, t''), 1, 8) := by rw [LG1] at z1; exact z1
      rw [LG1] at z4
      rw [z1, bdU_e]
      show sim (Option.map _ (Option.map _ ((ztg t'' 9 (some e)).bind _))) _ _
      rw [ztg_e z2, Option.bind_some, eb78]
      have I32 : zI t' (L.1 3) 2 = m'.1 2 := by rw [(k5 (L.1 3) (by omega) (by omega) (by omega)).2.2.1]; exact hTx.2.1
      have hend := end_bad (w := ((n + 1 : Nat) : Int)) (C := 1) (S := 8) (cc := 1) (nn := 8) z6 z2 z3 (z4.trans I32) (by omega) p2 (by rw [p3, j2.1, hp5]) (fr10 frf) (fun v a b => slf v a (by rw [hn10] at b; omega)) (Nat.le_refl _) (Nat.le_refl _)
      rw [LG1] at hend
      have hend' : sim ((f0_wording_b54 G (some (L.1 3)) (some e) t'').map fun r => (r.1, r.2.1 + 1, r.2.2 + 8)) (m5_wording_b267 ((n + 1 : Nat) : Int) mf) (aftU G L 1 8) := by
        obtain ⟨a, b, w1, w2, w3, w4, w5, LL, w6, w7⟩ := hend
        exact ⟨a, b, w1, w2, w3, w4, w5, LL, by rw [w6, LG1], w7⟩
      exact sim_mapU hend' (by omega) (by omega)
    · have hn11' : (ms m 10 (-1)).1 11 ≤ 11 := by rw [hn10]; omega
      obtain ⟨t9, t10, b2', L9, c9, n9, z1, z2, z3, z4, z5, z6, z7, z8, z9⟩ := c_finB hRCf hFH y2 p1 p3 p4 p5 p6 hn11'
      have z1 : f0_finish G (some (L.1 3)) (some N) t' = some ((.inr (((n + 1 : Nat)) : Int), t10), c9, n9) := by
        rw [hn10, Int.toNat_natCast, LG1] at z1
        exact z1
      rw [hn10, Int.toNat_natCast] at z8
      rw [z1, bdU_e]
      obtain ⟨mr, hmr⟩ : ∃ mr, mr = ms (ms mf 10 (-1)) 11 ((n : Int) + 1) := ⟨_, rfl⟩
      have mr1 : ∀ k, mr.1 k = if k = 11 then (n : Int) + 1 else if k = 10 then -1 else mf.1 k := fun k => by
        rw [hmr, ms_1]
        by_cases z : k = 11
        · rw [if_pos z, if_pos z]
        · rw [if_neg z, if_neg z, ms_1]
      have slr : ∀ v, slc mr v = slc mf v := fun v => by rw [hmr]; rfl
      have frr : mfr (11 :: SF7) AF7 (ms m 10 (-1)) mr := ⟨fun k hk => by
        simp only [List.mem_cons, not_or] at hk
        rw [mr1, if_neg hk.1, ms_1]
        by_cases z : k = 10
        · rw [if_pos z, if_pos z]
        · rw [if_neg z, if_neg z]; exact frf.1 k hk.2, fun k hk => by rw [hmr]; exact frf.2 k hk⟩
      have z8' : AD G t9 t10 (L9.1 105) (L9.1 151) b2' n (some N) := by rw [z6]; exact z8
      obtain ⟨L', q1, q2⟩ := RC_reg (m' := mr) z4 hn10 (by omega) (by rw [slr]; exact z5) (by rw [slr]; exact p3) z8' frr (by rw [mr1, if_pos rfl]) (fun v v1 v2 => by rw [slr, slf v v1 v2]; rfl)
      have q3 := RC_ts q2
      have e3' : L'.1 3 = L.1 3 := by rw [q1, z6, LG1]
      have emr : ms mr 2 0 = ms (ms (ms mf 2 0) 10 (-1)) 11 (mf.1 11 + 1) := by
        refine Mu_e (fun k => ?_) (by rw [hmr]; rfl)
        have ef : mf.1 11 = (n : Int) := by rw [frf.1 11 (by decide)]; exact hn
        rw [ms_1, mr1, ms_1, ms_1, ms_1, ef]
        by_cases y1 : k = 2
        · rw [if_pos y1, if_neg (by omega), if_neg (by omega), if_pos y1]
        · rw [if_neg y1, if_neg y1]
      rw [emr, e3'] at q3
      have T10 : zT t10 (L.1 3) = 1 := by rw [← e3']; exact rT3 q2.1
      refine ⟨((((n + 1 : Nat) : Int), zsI t10 (L.1 3) 2 0), 0 + c9 + cc, 0 + n9 + nn), _, ?_, m_end_good p2, ?_, ?_, ?_, L', e3', q3⟩
      · show Option.map _ (Option.map _ (f0_endorse_b85 G (some (L.1 3)) _ t10)) = _
        unfold f0_endorse_b85
        rw [pfI_e T10 hg3, Option.bind_some]
        rfl
      · rfl
      · dsimp only; omega
      · dsimp only; omega
