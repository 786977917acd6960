/-! JUDGE: the second half -/
noncomputable def CJ (G : CG) (v0 : Option Nat) (v1 x13 : Int) (u : Sg) : Option ((Int × Sg) × Nat × Nat) :=
    (gfR u 1 15 v0).bind fun x14 =>
    (ztg u 1 v0).bind fun b15 =>
    (f0_the G (some b15) v1 u).bind fun x16 =>
    (gfR u 1 4 v0).bind fun x17 =>
    (ztg u 4 x14).bind fun b18 =>
    (f3_isParted G (some b18) x16 none x17 u).bind fun q19 =>
    if (w32 q19.1) = 0 then
      f0_judge_b77 G v0 (-4) q19.2
    else
      (gfR q19.2 1 15 v0).bind fun x20 =>
      (ztg q19.2 1 v0).bind fun b21 =>
      (f0_the G (some b21) v1 q19.2).bind fun x22 =>
      (gfR q19.2 1 4 v0).bind fun x23 =>
      (ztg q19.2 4 x20).bind fun b24 =>
      (f3_judge G (some b24) x22 x13 x23 q19.2).bind fun q25 =>
      f0_judge_b77 G v0 q25.1 q25.2
noncomputable def DJ (v1 v2 : Int) (u : Mu) : Option (Int × Mu) :=
    (m5_clear 13 u).bind fun u2 =>
    (m5_copyWording 13 v1 u2).bind fun u3 =>
    (mast u3 33 14 13 0).bind fun u4 =>
    (m5_takeNodes 13 0 (u4.1 46) u4).bind fun u5 =>
    (m5_judge_l130 v1 v2 NN 0 u5).bind fun q6 =>
    (m5_joinStarts v1 13 q6).bind fun q7 =>
    if (w32 q7.1) = 0 then
      some ((-4), q7.2)
    else
      (some (ms q7.2 70 (-1))).bind fun u8 =>
      (m5_judge_l176 v1 v2 NN 0 u8).bind fun q9 =>
      m5_judge_b316 v2 q9
/-- the class's text ends; the twin's has ended before -/
theorem RC_te {G : CG} {L : Ly} {u : Sg} {m : Mu} {ts : Int} (h : RC G L u (ms m 2 ts)) (h2 : m.1 2 = 0) : RC G L (zsI u (L.1 3) 2 0) m := by
  have := RC_ts h
  have e : ms (ms m 2 ts) 2 0 = m := Mu_e (fun k => by
    rw [ms_1]
    by_cases z : k = 2
    · rw [if_pos z, z, h2]
    · rw [if_neg z, ms_1, if_neg z]) rfl
  rw [e] at this
  exact this
theorem o_judge2 {G : CG} {L : Ly} {t : Sg} {m : Mu} {w kd c made : Nat} {ts : Int} {ns : List Nd} (h : RC G L t (ms m 2 ts)) (h2 : m.1 2 = 0) (w1 : 1 ≤ w) (w2 : (w : Int) ≤ m.1 11) (hkd : kd ≤ 2) (h4 : zR t (L.1 3) 4 = some c) (hc : CA (FG L t (slc m w)) G t 100 c ns) (ho : ∀ q ∈ ns, okN (nF (slc m w)) (nM (slc m w)) q) (hnd : NDS m 0 ns) (hl : ns.length = made) (h46 : m.1 46 = (made : Int)) (hmd : made ≤ 300) : sim (CJ G (some (L.1 3)) w kd t) (DJ w (26 + (kd : Int)) m) (fun a b => a.1.1 = b.1 ∧ a.2 = (0, 0) ∧ RC G L a.1.2 b.2) := by
  have hR := h.1
  obtain ⟨hM, hA⟩ := h.2.2.2.2.1.2.2.2 w w1 w2
  have w12 : w ≤ 12 := by have : (ms m 2 ts).1 11 ≤ 12 := h.2.2.2.2.1.2.1; have e : (ms m 2 ts).1 11 = m.1 11 := rfl; omega
  obtain ⟨W, hW⟩ : ∃ W, slc m w = W := ⟨_, rfl⟩
  have hM : WM W := by have : slc (ms m 2 ts) w = W := hW; rw [this] at hM; exact hM
  have hA : WA G L t (L.1 (300 + w)) W := by have : slc (ms m 2 ts) w = W := hW; rw [this] at hA; exact hA
  rw [hW] at hc ho
  obtain ⟨F, hFe⟩ : ∃ F, nF W = F := ⟨_, rfl⟩
  have f8 : F ≤ 8 := by rw [← hFe]; exact (nF_e hM).2
  have e12 : W 12 0 = (F : Int) := by rw [(nF_e hM).1, hFe]
  have n12 : ((nM W : Nat) : Int) ≤ 12 := by have := hM.1; show (((W 19 0).toNat : Nat) : Int) ≤ 12; omega
  have hmd1 : 1 ≤ made := by rw [← hl]; exact isC_ne (CA_isC _ _ _ hc)
  -- the class parts
  have hXB : XB G L t W none (fun _ _ => False) [] := Or.inl ⟨rfl, fun _ _ z => z⟩
  have hXC : XC G L t W (some c) (fun f x => ∃ q ∈ ns, thN f q x) (ns.map (fun q => q.2.2.2) ++ ns.map (fun q => q.2.2.2 + 1)) := Or.inr ⟨c, ns, rfl, hc, fun q hq => okN_up (ho q hq) (by omega) n12, fun _ _ => Iff.rfl, fun f x ⟨q, q1, q2⟩ => by
    rw [List.mem_append]
    rcases q2.2.2 with z | z
    · exact Or.inl (List.mem_map.mpr ⟨q, q1, z.1.symm⟩)
    · exact Or.inr (List.mem_map.mpr ⟨q, q1, z.1.symm⟩)⟩
  obtain ⟨cn, ca, u', e1, ⟨s1, zr1⟩, i21, i22, hI⟩ := c_parted h hM hA hXB hXC (by rw [List.length_append, List.length_map, List.length_map, hl]; show 0 + (made + made) ≤ 600; omega)
  rw [hFe] at e1 i21 i22 hI
  -- the twin
  obtain ⟨m5, a1, a2, a3⟩ := m_prep (w := w) hW w12 h46 hmd hnd hl
  have sl5 : slc m5 w = W := by rw [slc_mpl_o a2 (by omega)]; exact hW
  obtain ⟨m6, b1, b2, b3, b4⟩ := m_l130 (w := w) sl5 w12 hM rfl a3 hmd ho (26 + (kd : Int))
  have sl6 : slc m6 w = W := by rw [slc_mpl_o b2 (by omega)]; exact sl5
  obtain ⟨nz, as, m7, e2, f2, i65, hB⟩ := m_join (m := m6) (w := w) (v := 13) sl6 rfl (by omega) (by omega) (nF_e hM).1 (by omega) (fun f hf => stO_of hM hf) (fun f hf => (b4 f hf).1)
  rw [hFe] at e2 i65 hB
  have hc1 : ∀ f, f < F → 1 ≤ cn f ∧ cn f ≤ 1219 := fun f hf => ⟨(hI f hf).2.2.1, (hI f hf).2.2.2.1⟩
  have heq : ∀ f, f < F → nz f = cn f ∧ ∀ k, k < cn f → as f k = ca f k := by
    intro f hf
    obtain ⟨-, hs, -⟩ := hI f hf
    obtain ⟨⟨-, -, hs2, -⟩, -⟩ := hB f hf
    have hW2 := hM.2.2.2.2.2.2.2.2.2.2.1 f (by omega)
    have hV2 := (b4 f (by omega)).2
    obtain ⟨l14, l17, l18⟩ := a3.1.2 f (by omega)
    have hs3 : SRT (nz f) (as f) (stX (W 14 f) (W 17 f) (W 18 f) (fun x => ((∃ i : Nat, (i : Int) < W 33 0 ∧ thN f (nd W i) x) ∨ False) ∨ ∃ q ∈ ns, thN f q x)) := by
      refine SRT_cg hs2 (fun _ _ => rfl) (fun x => ?_)
      rw [hV2 x]
      show (∃ k, k < nS W f ∧ W 38 (608 * f + k) = x) ∨ _ ↔ _
      rw [← hW2 x]
      unfold thr
      rw [l14, l17, l18, a3.2.1]
      unfold stX
      have hn := V13_nd a3
      constructor
      · rintro ((z | z) | (z | ⟨z1, z2, i, i1, i2⟩))
        · exact Or.inl z
        · exact Or.inr ⟨z.1, z.2.1, Or.inl (Or.inl z.2.2)⟩
        · exact Or.inl z
        · obtain ⟨q, q1, q2⟩ := List.mem_map.mp (hn.1 i (by omega))
          rw [← q2] at i2
          exact Or.inr ⟨z1, z2, Or.inr ⟨q, q1, (thN_w8 (nf := (nF W : Int)) (nm := (nM W : Int)) (by omega) n12 (ho q q1)).mp i2⟩⟩
      · rintro (z | ⟨z1, z2, (z3 | z3) | ⟨q, q1, q2⟩⟩)
        · exact Or.inl (Or.inl z)
        · exact Or.inl (Or.inr ⟨z1, z2, z3⟩)
        · exact z3.elim
        · obtain ⟨k, k1, k2⟩ := hn.2 (w8n q) (List.mem_map.mpr ⟨q, q1, rfl⟩)
          refine Or.inr (Or.inr ⟨z1, z2, k, by omega, ?_⟩)
          rw [← k2]; exact (thN_w8 (nf := (nF W : Int)) (nm := (nM W : Int)) (by omega) n12 (ho q q1)).mpr q2
    obtain ⟨q1, q2⟩ := SRT_uniq hs3 hs
    exact ⟨q1, fun k hk => q2 k (by omega)⟩
  have hj : jA nz F = jA cn F := by
    have : ∀ g, g ≤ F → jA nz g = jA cn g := by
      intro g
      induction g with
      | zero => intro _; rfl
      | succ g ih => intro hg; simp only [jA]; rw [ih (by omega), (heq g (by omega)).1]
    exact this F (Nat.le_refl _)
  obtain ⟨jp1, jp2⟩ := jA_P (ns := cn) F (fun g hg => (hc1 g hg).1)
  have h1 := RC_scr h s1
  have hR1 := h1.1
  -- the relation up to here
  have fr6 : mfr SF7 AF7 m m6 := ⟨fun k _ => by rw [b2.1, a2.1], fun k hk => by
    rw [b2.2.1 k (fun z => hk ((by decide : ∀ k ∈ [38, 39], k ∈ AF7) k z)), a2.2.1 k (fun z => hk ((by decide : ∀ k ∈ KA7, k ∈ AF7) k z))]⟩
  have RC6 : RC G L u' (ms m6 2 ts) := RC_tw h1 ⟨fun k hk => by
    rw [ms_1, ms_1]
    by_cases z : k = 2
    · rw [if_pos z, if_pos z]
    · rw [if_neg z, if_neg z]; exact fr6.1 k hk, fun k hk => fr6.2 k hk⟩ (fun v q1 q2 => by
    have : v ≤ 12 := by have := h.2.2.2.2.1.2.1; omega
    show slc m6 v = slc m v
    rw [slc_mpl_o b2 (by omega), slc_mpl_o a2 (by omega)])
  have RC7 : RC G L u' (ms m7 2 ts) := RC_msc2 RC6 (mfr_up f2 (by decide) (by decide))
  have m72 : m7.1 2 = 0 := by rw [f2.1 2 (by decide), b2.1, a2.1]; exact h2
  have m711 : m7.1 11 = m.1 11 := by rw [f2.1 11 (by decide), b2.1, a2.1]
  have T3 := rT3 hR1
  have the1 : f0_the G (some (L.1 3)) (w : Int) t = some (some (L.1 (300 + w))) := c_the h w1 w2
  have the2 : f0_the G (some (L.1 3)) (w : Int) u' = some (some (L.1 (300 + w))) := c_the h1 w1 w2
  have eD : DJ w (26 + (kd : Int)) m = (if (w32 (if jA cn F ≤ 20000 then 1 else 0)) = 0 then some ((-4), m7) else (m5_judge_l176 w (26 + (kd : Int)) NN 0 (ms m7 70 (-1))).bind fun q9 => m5_judge_b316 (26 + (kd : Int)) q9) := by
    unfold DJ
    obtain ⟨x2, y2, a1⟩ := Option.bind_eq_some_iff.mp a1
    obtain ⟨x3, y3, a1⟩ := Option.bind_eq_some_iff.mp a1
    obtain ⟨x4, y4, a1⟩ := Option.bind_eq_some_iff.mp a1
    have e2' : m5_joinStarts w 13 m6 = some (if jA nz F ≤ 20000 then 1 else 0, m7) := e2
    rw [y2, Option.bind_some, y3, Option.bind_some, y4, Option.bind_some, a1, Option.bind_some, b1, Option.bind_some, e2', Option.bind_some, hj, Option.bind_some]
  have eC : CJ G (some (L.1 3)) w kd t = (if (w32 (if jP cn F ≤ 20000 then 1 else 0)) = 0 then f0_judge_b77 G (some (L.1 3)) (-4) u' else (f3_judge G (some (L.1 115)) (some (L.1 (300 + w))) kd (some c) u').bind fun q25 => f0_judge_b77 G (some (L.1 3)) q25.1 q25.2) := by
    unfold CJ
    have h4' : zR u' (L.1 3) 4 = some c := by rw [zr1]; exact h4
    rw [gfR_v (rT3 hR) (rR3_15 hR), Option.bind_some, ztg_e (rT3 hR), Option.bind_some, the1, Option.bind_some, gfR_v (rT3 hR) h4, Option.bind_some, ztg_e (rT115 hR), Option.bind_some, e1, Option.bind_some]
    dsimp only
    rw [gfR_v T3 (rR3_15 hR1), Option.bind_some, ztg_e T3, Option.bind_some, the2, Option.bind_some, gfR_v T3 h4', Option.bind_some, ztg_e (rT115 hR1), Option.bind_some]
  rw [eC, eD]
  by_cases hz : jP cn F ≤ 20000
  · have hja : jA cn F ≤ 20000 := by
      by_cases q : jA cn F ≤ 1000000
      · rw [jp1 q]; exact hz
      · have := jp2 (by omega); omega
    have hjP : jA cn F = jP cn F := jp1 (by omega)
    rw [if_pos hz, if_pos hja, if_neg (show ¬ w32 1 = 0 by decide), if_neg (show ¬ w32 1 = 0 by decide)]
    have hca : ∀ f, f < F → ∀ k, k < cn f → W 17 f ≤ ca f k ∧ 0 ≤ ca f k ∧ ca f k ≤ 999999999 := fun f hf k hk => by
      obtain ⟨-, hs, -, -, hb⟩ := hI f hf
      exact ⟨stX_lo ((hs.2 _).mpr ⟨k, hk, rfl⟩), hb k hk⟩
    obtain ⟨tb, htb⟩ : ∃ tb, tb = zsI (zsI u' (L.1 115) 127 0) (L.1 115) 128 (F : Int) := ⟨_, rfl⟩
    obtain ⟨x0, hx0⟩ : ∃ x0, x0 = ms m7 70 (-1) := ⟨_, rfl⟩
    rw [← hx0]
    have tbI : ∀ g, zI tb (L.1 115) g = if g = 128 then (F : Int) else if g = 127 then 0 else zI u' (L.1 115) g := fun g => by
      rw [htb, zsI_I]
      by_cases z : g = 128
      · rw [if_pos ⟨rfl, z⟩, if_pos z]
      · rw [if_neg (fun y => z y.2), if_neg z, zsI_I]
        by_cases z2 : g = 127
        · rw [if_pos ⟨rfl, z2⟩, if_pos z2]
        · rw [if_neg (fun y => z2 y.2), if_neg z2]
    have tbO : ∀ a, a ≠ L.1 115 → sam u' tb a := fun a ha => by rw [htb]; exact sam_zsI (sam_zsI sam_rf ha) ha
    have tbA : zA tb = zA u' := by rw [htb]; rfl
    have wrb : wr L u' tb (fun r => r = 115 ∨ r = 147 ∨ r = 148 ∨ r = 149) := by rw [htb]; exact wr_I (wr_I wr_rf (by rw [rC115 hR1]; omega)) (by rw [rC115 hR1]; omega)
    have x070 : x0.1 70 = -1 := by rw [hx0, ms_1, if_pos rfl]
    have frx : mfr [68, 70] [66, 67, 69] (ms m7 2 ts) (ms x0 2 ts) := ⟨fun k hk => by
      rw [ms_1, ms_1, hx0]
      by_cases z : k = 2
      · rw [if_pos z, if_pos z]
      · rw [if_neg z, if_neg z, ms_1, if_neg (fun e => hk (by rw [e]; decide))], fun k _ => by rw [hx0]; rfl⟩
    have RCb : RC G L tb (ms x0 2 ts) := by
      obtain ⟨j1, j2, j3, -⟩ := id RC7.2.2.2.1
      refine RC_J RC7 wrb frx ⟨fun s hs => ?_, ?_, ?_, ?_, ?_, ?_, ?_, ?_⟩
      · have := j1 s hs
        rw [tbA, tbI, if_neg (by decide), if_neg (by decide), hx0]; exact this
      · rw [hx0]; exact j2
      · rw [hx0]; exact j3
      · left; rw [tbI, if_neg (by decide), if_pos rfl]
      · rw [tbI, if_neg (by decide), if_pos rfl]
        constructor
        · intro z; omega
        · intro z
          have z : 0 ≤ x0.1 70 := z
          omega
      · show -1 ≤ x0.1 70; omega
      · show x0.1 70 ≤ 8; omega
      · intro z
        have z : 0 ≤ x0.1 70 := z
        omega
    have hRb := RCb.1
    have JDb : JD L tb F (jP cn F) cn ca (fun f => W 18 f) := by
      refine ⟨by rw [tbI, if_neg (by decide), if_neg (by decide)]; exact i21, by rw [tbI, if_neg (by decide), if_neg (by decide), i22, Nat.min_eq_left (by omega)], fun f hf => ?_⟩
      obtain ⟨⟨t1, t2, t3⟩, ⟨r1, r2, r3, r4⟩, rr⟩ := rSt hR1 (f := f) (by omega)
      obtain ⟨q1, q2, q3⟩ := (hI f hf).1
      have s0 := tbO (L.1 (160 + f)) (rne t2 (rC115 hR1) (by omega))
      exact ⟨by rw [s0.2.2.1]; exact q1, by rw [s0.2.2.1]; exact q2, fun k hk => by rw [tbA]; exact q3 k hk⟩
    have JMx : JMt x0 F (jP cn F) cn ca := by
      refine ⟨?_, fun f hf => ?_⟩
      · rw [hx0, ms_1, if_neg (by decide), i65, hj, if_pos (by omega), hjP]
      · obtain ⟨⟨q1, q2, -, -⟩, -⟩ := hB f hf
        obtain ⟨q3, q4⟩ := heq f hf
        rw [hx0]
        exact ⟨by show m7.2 64 f = _; rw [q1, q3], fun j hj => by show m7.2 63 _ = _; rw [q2 j (by omega), q4 j hj]⟩
    have slx : ∀ v, slc x0 v = slc m6 v := fun v => by
      have : slc m7 v = slc m6 v := slc_fr f2 (by decide)
      rw [hx0]; exact this
    have Cb : CA (fun q => L.2 q ≤ 1) G tb 100 c ns := CA_sam (fun q hq => ⟨hq.1, sam_tr (sam01 s1 hq.1) (tbO q (fun e => by have := hq.1; rw [e, rC115 hR] at this; omega))⟩) (gro_tr (scr_gro s1) ⟨by rw [htb]; exact Nat.le_refl _, fun x _ => ⟨by rw [htb]; rfl, by rw [htb]; rfl⟩⟩) _ _ _ hc
    have JI0 : JI G L ts w F (jP cn F) made cn ca (fun f => W 18 f) W (slc m6 13) c ns tb x0 := ⟨RCb, JDb, ⟨by rw [tbI, if_neg (by decide), if_pos rfl], by rw [tbI, if_pos rfl]⟩, JMx, x070, ⟨by rw [slx]; exact sl6, slx 13, by rw [hx0, ms_1, if_neg (by decide), f2.1 46 (by decide), b2.1, a2.1]; exact h46⟩, Cb⟩
    have eV12 : slc m6 13 12 0 = W 12 0 := b3.1.1
    obtain ⟨t', x', y1, y2, y3, y4⟩ := o_jL (kd := kd) w1 w12 hFe hc1 hca hz ⟨hmd1, hmd⟩ (by rw [eV12, e12]; omega) b3.2.2.2 ho (fun q hq => by
      obtain ⟨q0, q1, q2⟩ := List.mem_map.mp hq
      rw [← q2, eV12, (nF_e hM).1]
      exact (okN_w8 (nf := (nF W : Int)) (nm := (nM W : Int)) (by omega) n12 (ho q0 q1)).1) eV12 hkd (jP cn F) 0 NN NN tb x0 (by omega) (NN_gt (by omega)) (NN_gt (by omega)) (by rw [hx0, ms_1, if_neg (by decide), m711]; exact w2) JI0
    have y1 : f3_judge_l16 G (some (L.1 115)) (some (L.1 (300 + w))) kd (some c) NN 0 tb = some t' := y1
    have y2 : m5_judge_l176 w (26 + (kd : Int)) NN 0 x0 = some x' := y2
    have x2' : x'.1 2 = 0 := by rw [y3.1 2 (by decide), hx0, ms_1, if_neg (by decide)]; exact m72
    have eJ : f3_judge G (some (L.1 115)) (some (L.1 (300 + w))) kd (some c) u' = f3_judge_b124 G (some (L.1 115)) kd t' := by
      unfold f3_judge
      rw [pfI_e (rT115 hR1) (rG115 hR1), Option.bind_some, gfI_v (r := (F : Int)) (show zT (zsI u' (L.1 115) 127 0) (L.1 115) = 4 from (rT115 hR1 : zT u' (L.1 115) = 4)) (by rw [zsI_I, if_neg (fun z => absurd z.2 (by decide))]; exact i21), Option.bind_some, pfI_e (show zT (zsI u' (L.1 115) 127 0) (L.1 115) = 4 from (rT115 hR1 : zT u' (L.1 115) = 4)) (rG115 hR1), Option.bind_some, ← htb, y1, Option.bind_some]
    rw [eJ, y2, Option.bind_some]
    have fin : ∀ (tF : Sg) (b : Bool), f3_judge_l127 G (some (L.1 115)) kd NN 0 t' = some tF → zT tF (L.1 115) = 4 → zT tF (L.1 3) = 1 → zI tF (L.1 115) 127 = b2i b → (x'.1 70 < 0 ↔ b = false) → w32 (x'.1 70) = x'.1 70 → RC G L tF (ms x' 2 ts) → sim ((f3_judge_b124 G (some (L.1 115)) kd t').bind fun q25 => f0_judge_b77 G (some (L.1 3)) q25.1 q25.2) (m5_judge_b316 (26 + (kd : Int)) x') (fun a b => a.1.1 = b.1 ∧ a.2 = (0, 0) ∧ RC G L a.1.2 b.2) := fun tF b z1 z2 z3 z4 z5 z6 z7 => by
      have ansC : f3_judge_b124 G (some (L.1 115)) kd t' = some ((if kd = 2 then b2i b else b2i (!b)), tF) := by
        unfold f3_judge_b124 f3_judge_b169 f3_judge_b183
        rw [z1, Option.bind_some, gfI_v z2 z4, Option.bind_some, w32_n (show kd < 2147483648 by omega), w32_b2i]
        by_cases q : kd = 2
        · rw [if_pos (show ((kd : Nat) : Int) = 2 by omega), if_pos q]
          cases b with
          | false => rw [if_neg (show ¬ b2i false = w32 1 by decide)]; rfl
          | true => rw [if_pos (show b2i true = w32 1 by decide)]; rfl
        · rw [if_neg (show ¬ ((kd : Nat) : Int) = 2 by omega), if_neg q]
          cases b with
          | false => rw [if_pos (show b2i false = w32 0 by decide)]; rfl
          | true => rw [if_neg (show ¬ b2i true = w32 0 by decide)]; rfl
      have ansM : m5_judge_b316 (26 + (kd : Int)) x' = some ((if kd = 2 then b2i b else b2i (!b)), x') := by
        unfold m5_judge_b316
        rw [w32_id (x := 26 + (kd : Int)) (by omega) (by omega), z6]
        by_cases q : kd = 2
        · rw [if_pos (show (26 : Int) + ((kd : Nat) : Int) = 28 by omega), if_pos q]
          cases b with
          | false => rw [if_pos (z5.mpr rfl)]; rfl
          | true => rw [if_neg (fun y => absurd (z5.mp y) (by simp))]; rfl
        · rw [if_neg (show ¬ (26 : Int) + ((kd : Nat) : Int) = 28 by omega), if_neg q]
          cases b with
          | false => rw [if_pos (z5.mpr rfl)]; rfl
          | true => rw [if_neg (fun y => absurd (z5.mp y) (by simp))]; rfl
      rw [ansC, ansM, Option.bind_some]
      refine ⟨(((if kd = 2 then b2i b else b2i (!b)), zsI tF (L.1 3) 2 0), 0, 0), _, ?_, rfl, rfl, rfl, RC_te z7 x2'⟩
      unfold f0_judge_b77 f0_judge_b88
      rw [pfI_e z3 (rG3 hR1), Option.bind_some]
    rcases y4 with hJ | ⟨t2, x2, v, hJ, et, v40, x70, v69, frx2⟩
    · obtain ⟨k1, ⟨k2, -, -⟩, ⟨k3, -⟩, -, k4, -, -⟩ := id hJ
      refine fin t' false ?_ (rT115 k1.1) (rT3 k1.1) (by rw [k3]; rfl) ⟨fun _ => rfl, fun _ => by omega⟩ (by rw [k4]; decide) k1
      obtain ⟨fu, hfu⟩ : ∃ fu, NN = fu + 1 := ⟨NN - 1, by have := NN_ge; omega⟩
      rw [hfu]
      unfold f3_judge_l127
      rw [gfI_v (rT115 k1.1) k2, Option.bind_some, gfI_v (rT115 k1.1) k3, Option.bind_some]
      by_cases q : w32 ((F : Nat) : Int) ≤ w32 0
      · rw [if_pos q]
      · rw [if_neg q, if_pos (by decide)]
    · obtain ⟨k1, ⟨k2, -, -⟩, ⟨k3, k3'⟩, -, k4, -, -⟩ := id hJ
      have hR2 := k1.1
      obtain ⟨tF, g1, g2, g3, g4, g5⟩ := c_127 k1 (v2 := (kd : Int)) f8 k2 v40
      have frF : mfr [68, 70] [66, 67, 69] (ms x2 2 ts) (ms x' 2 ts) := ⟨fun k hk => by
        rw [ms_1, ms_1]
        by_cases z : k = 2
        · rw [if_pos z, if_pos z]
        · rw [if_neg z, if_neg z]; exact frx2.1 k (fun e => hk (by simp at e; rw [e]; decide)), fun k hk => frx2.2 k (fun e => hk (by simp at e; rw [e]; decide))⟩
      have RCF : RC G L tF (ms x' 2 ts) := by
        obtain ⟨j1, j2, j3, -⟩ := id k1.2.2.2.1
        have e68 : x'.1 68 = x2.1 68 := frx2.1 68 (by decide)
        have e66 : x'.2 66 = x2.2 66 := frx2.2 66 (by decide)
        have e67 : x'.2 67 = x2.2 67 := frx2.2 67 (by decide)
        refine RC_J k1 g2 frF ⟨fun s hs => ?_, ?_, ?_, ?_, ?_, ?_, ?_, ?_⟩
        · have := j1 s hs
          rw [g4 (L.1 148) (by rw [rC148 hR2]; decide), g4 (L.1 147) (by rw [rC147 hR2]; decide), g3, if_neg (by decide)]
          show (_ ∧ (_ ↔ x'.1 68 = 1 ∧ 0 ≤ x'.2 67 s) ∧ (_ → _ = x'.2 67 s ∧ x'.2 67 s ≤ 8 ∧ ∀ f : Nat, (f : Int) < x'.2 67 s → _ = x'.2 66 (8 * s + f)))
          rw [e68, e66, e67]; exact this
        · show x'.1 68 = 0 ∨ x'.1 68 = 1
          rw [e68]; exact j2
        · intro s hs
          show -1 ≤ x'.2 67 s ∧ x'.2 67 s ≤ 8
          rw [e67]; exact j3 s hs
        · right; rw [g3, if_pos rfl]
        · rw [g3, if_pos rfl]
          exact ⟨fun _ => by show 0 ≤ x'.1 70; omega, fun _ => rfl⟩
        · show -1 ≤ x'.1 70; omega
        · show x'.1 70 ≤ 8; omega
        · intro _
          show zI tF (L.1 115) 128 = x'.1 70 ∧ ∀ f : Nat, (f : Int) < x'.1 70 → zA tF (L.1 149) f = x'.2 69 f
          rw [g3, if_neg (by decide), k3', x70]
          exact ⟨rfl, fun f hf => by rw [g5 f (by omega), v69 f (by omega)]⟩
      refine fin tF true (by rw [et]; exact g1) (rT115 RCF.1) (rT3 RCF.1) (by rw [g3, if_pos rfl]; rfl) ⟨fun z => by omega, fun z => by simp at z⟩ (by rw [x70, w32_n (by omega)]) RCF
  · have hja : ¬ jA cn F ≤ 20000 := fun q => by
      rw [jp1 (by omega)] at q; exact hz q
    rw [if_neg hz, if_neg hja, if_pos (show w32 0 = 0 by decide), if_pos (show w32 0 = 0 by decide)]
    refine ⟨((-4, zsI u' (L.1 3) 2 0), 0, 0), (-4, m7), ?_, rfl, rfl, rfl, RC_te RC7 m72⟩
    unfold f0_judge_b77 f0_judge_b88
    rw [pfI_e T3 (rG3 hR1), Option.bind_some]
