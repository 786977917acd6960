/-! JUDGE: the loop over all ways -/
/-- nothing is shown yet -/
def JI (G : CG) (L : Ly) (ts : Int) (w F N made : Nat) (cn : Nat → Nat) (ca : Nat → Nat → Int) (hs : Nat → Int) (W V : Wv) (c : Nat) (ns : List Nd) (t : Sg) (x : Mu) : Prop := RC G L t (ms x 2 ts) ∧ JD L t F N cn ca hs ∧ (zI t (L.1 115) 127 = 0 ∧ zI t (L.1 115) 128 = (F : Int)) ∧ JMt x F N cn ca ∧ x.1 70 = -1 ∧ (slc x w = W ∧ slc x 13 = V ∧ x.1 46 = (made : Int)) ∧ CA (fun q => L.2 q ≤ 1) G t 100 c ns
theorem RC_msc2 {G : CG} {L : Ly} {u : Sg} {x x' : Mu} {ts : Int} (h : RC G L u (ms x 2 ts)) (q : mfr MS0 MA0 x x') : RC G L u (ms x' 2 ts) := RC_msc h ⟨fun k hk => by
  rw [ms_1, ms_1]
  by_cases z : k = 2
  · rw [if_pos z, if_pos z]
  · rw [if_neg z, if_neg z]; exact q.1 k hk, fun k hk => q.2 k hk⟩
theorem o_jL {G : CG} {L : Ly} {ts : Int} {w F N made kd : Nat} {cn : Nat → Nat} {ca : Nat → Nat → Int} {hs : Nat → Int} {W V : Wv} {c : Nat} {ns : List Nd} (w1 : 1 ≤ w) (hw12 : w ≤ 12) (hF : nF W = F) (hcn : ∀ f, f < F → 1 ≤ cn f ∧ cn f ≤ 1219) (hca : ∀ f, f < F → ∀ k, k < cn f → W 17 f ≤ ca f k ∧ 0 ≤ ca f k ∧ ca f k ≤ 999999999) (hN : N ≤ 20000) (hmd : 1 ≤ made ∧ made ≤ 300) (hV : V 12 0 ≤ 8) (hseg : seg V ((0 : Nat) : Int) (made : Int) = ns.map w8n) (ho : ∀ q ∈ ns, okN (nF W) (nM W) q) (hVo : ∀ q ∈ ns.map w8n, okN (V 12 0) (nM W) q) (hV12 : V 12 0 = W 12 0) (hkd : kd ≤ 2) : ∀ (d n f1 f2 : Nat) (t : Sg) (x : Mu), n + d = N → d + 1 < f1 → d + 1 < f2 → (w : Int) ≤ x.1 11 → JI G L ts w F N made cn ca hs W V c ns t x → ∃ t' x', f3_judge_l16 G (some (L.1 115)) (some (L.1 (300 + w))) kd (some c) f1 n t = some t' ∧ m5_judge_l176 w (26 + (kd : Int)) f2 n x = some x' ∧ mfr (70 :: MS0) (69 :: MA0) x x' ∧ (JI G L ts w F N made cn ca hs W V c ns t' x' ∨ ∃ (tb : Sg) (xb : Mu) (v : Nat → Int), JI G L ts w F N made cn ca hs W V c ns tb xb ∧ t' = zsI tb (L.1 115) 127 1 ∧ (∀ f, f < F → zA tb (L.1 140) f = v f) ∧ x'.1 70 = (F : Int) ∧ (∀ f, f < F → x'.2 69 f = v f) ∧ mfr [70] [69] xb x') := by
  intro d
  induction d with
  | zero =>
    intro n f1 f2 t x hd h1 h2 h11 hI
    obtain ⟨f1, rfl⟩ : ∃ g, f1 = g + 1 := ⟨f1 - 1, by omega⟩
    obtain ⟨f2, rfl⟩ : ∃ g, f2 = g + 1 := ⟨f2 - 1, by omega⟩
    obtain ⟨i1, ⟨i2, i3, i4⟩, i5, ⟨i6, i7⟩, i8⟩ := id hI
    refine ⟨t, x, ?_, ?_, mfr_rf, Or.inl hI⟩
    · unfold f3_judge_l16
      rw [gfI_v (rT115 i1.1) i3, Option.bind_some, if_pos (by rw [w32_n (by omega), w64_id (by omega) (by omega), w64_id (by omega) (by omega)]; omega)]
    · unfold m5_judge_l176
      rw [i6, if_pos (by rw [w32_n (by omega), w32_n (by omega)]; omega)]
  | succ d ih =>
    intro n f1 f2 t x hd h1 h2 h11 hI
    obtain ⟨f1, rfl⟩ : ∃ g, f1 = g + 1 := ⟨f1 - 1, by omega⟩
    obtain ⟨f2, rfl⟩ : ∃ g, f2 = g + 1 := ⟨f2 - 1, by omega⟩
    obtain ⟨i1, ⟨i2, i3, i4⟩, ⟨i5, i5'⟩, ⟨i6, i7⟩, i8, ⟨i9, i10, i11⟩, i12⟩ := id hI
    have hR := i1.1
    obtain ⟨hM, hA⟩ := i1.2.2.2.2.1.2.2.2 w w1 h11
    have hM : WM W := by have : slc (ms x 2 ts) w = W := i9; rw [this] at hM; exact hM
    have hA : WA G L t (L.1 (300 + w)) W := by have : slc (ms x 2 ts) w = W := i9; rw [this] at hA; exact hA
    have f8 : F ≤ 8 := by rw [← hF]; exact (nF_e hM).2
    have hM1 := hM.1
    have e19 : W 19 0 = (nM W : Int) := by unfold nM; omega
    have e12 : W 12 0 = (F : Int) := by rw [(nF_e hM).1, hF]
    -- the class's way, meanings, truth
    obtain ⟨t4, a1, s4, v4⟩ := c_jway i1 (c := n) f8 i2 (fun f hf => ⟨i4 f hf, hcn f hf⟩) (by omega)
    obtain ⟨v, hv⟩ : ∃ v, v = jv cn ca F n := ⟨_, rfl⟩
    rw [← hv] at v4
    have hvb : ∀ f, f < F → W 17 f ≤ v f ∧ 0 ≤ v f ∧ v f ≤ 999999999 := fun f hf => by
      rw [hv]
      exact hca f hf _ (Nat.mod_lt _ (hcn f hf).1)
    have sc4 := s40_scr s4
    have RC4 := RC_scr i1 sc4
    have A4 := WA_k (frz_scr sc4) hA
    have vw : ∀ f, f < nF W → zA t4 (L.1 140) f = v f ∧ w32 (v f) = v f := fun f hf => ⟨v4 f (by omega), w32_id (by have := hvb f (by omega); omega) (by have := hvb f (by omega); omega)⟩
    obtain ⟨t8, a2, s8, v8⟩ := c_mean1 RC4 hM (WA_Q A4) vw
    have sc8 := sZA_scr (L := L) (by rw [rC141 hR]; decide) s8
    have RC8 := RC_scr RC4 sc8
    have A8 := WA_k (frz_scr sc8) A4
    have hR8 := RC8.1
    have sc := scr_tr sc4 sc8
    have v40 : ∀ f, f < F → zA t8 (L.1 140) f = v f := fun f hf => by rw [s8.2 _ (rne (rC140 hR) (rC141 hR) (by decide))]; exact v4 f hf
    have C8 : CA (fun q => L.2 q ≤ 1) G t8 100 c ns := CA_sam (fun q hq => ⟨hq, sam01 sc hq⟩) (scr_gro sc) _ _ _ i12
    have et := c_truL RC8 hM C8 ho (v := v) (a := mnO W v) (fun f hf => ⟨v40 f (by omega), (vw f hf).2⟩) (fun k hk => ⟨v8 k hk, mnA_01 W v _ k⟩)
    -- the twin's
    have x12 : x.2 12 w = (F : Int) := by
      have : slc x w 12 0 = (F : Int) := by rw [i9, e12]
      rw [← this]
      show x.2 12 w = x.2 12 (1 * w + 0)
      rw [show 1 * w + 0 = w by omega]
    obtain ⟨x2, b1, fx2, u2⟩ := m_jway (m := x) (c := n) f8 (fun f hf => ⟨i7 f hf, hcn f hf⟩) (by omega)
    rw [← hv] at u2
    have sl2 : slc x2 w = W := by rw [slc_fr fx2 (by decide)]; exact i9
    obtain ⟨x3, b2, fx3, u3⟩ := m_findMeant (m := x2) (w := w) sl2 (by omega) hM (fun f hf => by
      rw [e12] at hf
      rw [u2 f (by omega)]; exact (vw f (by omega)).2)
    have mo : mnO W (x2.2 59) = mnO W v := mnO_cg (WM_0 hM) (fun f hf => u2 f (by omega))
    rw [mo] at u3
    have sl3 : slc x3 13 = V := by rw [slc_fr fx3 (by decide), slc_fr fx2 (by decide)]; exact i10
    have x59 : ∀ f, f < F → x3.2 59 f = v f := fun f hf => by rw [fx3.2 59 (by decide)]; exact u2 f hf
    have x346 : x3.1 46 = (made : Int) := by rw [fx3.1 46 (by decide), fx2.1 46 (by decide)]; exact i11
    obtain ⟨x4, b3, fx4⟩ := m_isTrue (m := x3) (w := 13) (i := 0) (j := made) (nm := (nM W : Int)) sl3 (by omega) hV (by omega) (by omega) hmd.2 (by rw [hseg]; exact CA_isC _ _ _ (CA_w8 (nf := (nF W : Int)) (nm := (nM W : Int)) (by omega) (by omega) _ _ _ C8 ho)) (by rw [hseg]; exact hVo) (fun f hf => by
      rw [hV12, e12] at hf
      rw [x59 f (by omega)]; exact (vw f (by omega)).2) (fun k hk => by rw [u3 k (by omega)]; exact mnA_01 W v _ k)
    have etw : tru (x3.2 59) (x3.2 61) (seg V ((0 : Nat) : Int) (made : Int)) = tru v (mnO W v) ns := by
      rw [hseg, tru_w8 (nf := (nF W : Int)) (nm := (nM W : Int)) (by omega) (by omega) ho]
      refine tru_cg (fun q hq h0 => ?_) (fun q hq h1 => ?_)
      · have := (ho q hq).2.2.1 h0
        rw [x59 q.2.1.toNat (by omega)]
      · have := (ho q hq).2.2.2 h1
        exact u3 q.2.1.toNat (by omega)
    rw [etw] at b3
    have fxA : mfr MS0 MA0 x x4 := mfr_tr (mfr_up fx2 (by decide) (by decide)) (mfr_tr (mfr_up fx3 (by decide) (by decide)) (mfr_up fx4 (by decide) (by decide)))
    have x4_12 : x4.2 12 w = (F : Int) := by rw [fxA.2 12 (by decide)]; exact x12
    have I8 : JI G L ts w F N made cn ca hs W V c ns t8 x4 := by
      have kI : ∀ a g, zI t8 a g = zI t a g := fun a g => by rw [s8.1.2.2.1, s4.1.2.2.1]
      refine ⟨RC_msc2 (RC_scr i1 sc) fxA, JD_k hR f8 ⟨i2, i3, i4⟩ (fun g _ => kI _ g) (fun a r _ _ _ => by funext g; exact kI a g) (fun a r h3 h4 h5 => ?_), ⟨by rw [kI]; exact i5, by rw [kI]; exact i5'⟩, JMt_k ⟨i6, i7⟩ ?_ ?_ ?_, by rw [fxA.1 70 (by decide)]; exact i8, ⟨?_, ?_, by rw [fx4.1 46 (by decide)]; exact x346⟩, C8⟩
      · rw [s8.2 a (fun e => by rw [e, rC141 hR] at h3; omega), s4.2 a (by omega)]
      · rw [fx4.1 65 (by decide), fx3.1 65 (by decide), fx2.1 65 (by decide)]
      · rw [fx4.2 63 (by decide), fx3.2 63 (by decide), fx2.2 63 (by decide)]
      · rw [fx4.2 64 (by decide), fx3.2 64 (by decide), fx2.2 64 (by decide)]
      · rw [slc_fr fx4 (by decide), slc_fr fx3 (by decide)]; exact sl2
      · rw [slc_fr fx4 (by decide)]; exact sl3
    have h11' : (w : Int) ≤ x4.1 11 := by rw [fxA.1 11 (by decide)]; exact h11
    obtain ⟨tg, xg, y1, y2, y3, y4⟩ := ih (n + 1) f1 f2 t8 x4 (by omega) (by omega) (by omega) h11' I8
    have y1 : f3_judge_l16 G (some (L.1 115)) (some (L.1 (300 + w))) kd (some c) f1 ((n : Int) + 1) t8 = some tg := y1
    have y2 : m5_judge_l176 w (26 + (kd : Int)) f2 ((n : Int) + 1) x4 = some xg := y2
    have fxg : mfr (70 :: MS0) (69 :: MA0) x xg := mfr_tr (mfr_up fxA (fun k hk => List.mem_cons_of_mem _ hk) (fun k hk => List.mem_cons_of_mem _ hk)) y3
    have e115 : zT t8 (L.1 115) = 4 := rT115 hR8
    have i127 : zI t8 (L.1 115) 127 = 0 := I8.2.2.1.1
    -- the class up to the truth
    have cls : f3_judge_l16 G (some (L.1 115)) (some (L.1 (300 + w))) kd (some c) (f1 + 1) n t = if tru v (mnO W v) ns = false then some tg else (if ((kd = 0 ∧ anV W v = false) ∨ (kd ≠ 0 ∧ anV W v = true)) then f3_judge_l16 G (some (L.1 115)) (some (L.1 (300 + w))) kd (some c) f1 ((n : Int) + 1) (zsI t8 (L.1 115) 127 1) else some tg) := by
      rw [f3_judge_l16.eq_2, gfI_v (rT115 hR) i3, Option.bind_some, if_neg (by rw [w32_n (by omega), w64_id (by omega) (by omega), w64_id (by omega) (by omega)]; omega), gfI_v (rT115 hR) i5, Option.bind_some, if_pos (by decide), ztg_e (rT115 hR), Option.bind_some, a1, Option.bind_some, gfR_v (rT115 RC4.1) (rR115_129 RC4.1), Option.bind_some, gfR_v (rT3 RC4.1) (rR3_13 RC4.1), Option.bind_some, ztg_e A4.1.2, Option.bind_some, a2, Option.bind_some, gfR_v e115 (rR115_129 hR8), Option.bind_some, gfR_v (rT3 hR8) (rR3_13 hR8), Option.bind_some, et, Option.bind_some, w32_b2i]
      cases htr : tru v (mnO W v) ns with
      | false => rw [if_pos (show b2i false = 0 from rfl), if_pos rfl]; exact y1
      | true =>
        rw [if_neg (show ¬ b2i true = 0 by decide), if_neg (by simp)]
        obtain ⟨da, q1, q2⟩ := c_ansAt hM A8 v
        rw [gfR_v A8.1.2 q1, Option.bind_some, Option.bind_some, gfR_v (rT3 hR8) (rR3_13 hR8), Option.bind_some, ztg_e A8.1.2, Option.bind_some, c_num RC8 hM A8 (fun f hf => ⟨v40 f (by omega), (hvb f (by omega)).1, (hvb f (by omega)).2.2⟩), Option.bind_some, q2, Option.bind_some, w32_n (show kd < 2147483648 by omega), w32_b2i, pfI_e e115 (rG115 hR8), pfI_e e115 (rG115 hR8), Option.bind_some, Option.bind_some, zsI_same i127, y1]
        by_cases z : kd = 0
        · rw [if_pos (by omega)]
          cases han : anV W v with
          | false => rw [if_pos (show b2i false = 0 from rfl), if_pos (Or.inl ⟨z, rfl⟩)]
          | true => rw [if_neg (show ¬ b2i true = 0 by decide), if_neg (by rintro (q | q); exact absurd q.2 (by simp); exact q.1 z)]
        · rw [if_neg (by omega)]
          cases han : anV W v with
          | false => rw [if_neg (show ¬ b2i false = 1 by decide), if_neg (by rintro (q | q); exact z q.1; exact absurd q.2 (by simp))]
          | true => rw [if_pos (show b2i true = 1 from rfl), if_pos (Or.inr ⟨z, rfl⟩)]
    -- the twin
    obtain ⟨x5, hx5⟩ : ∃ x5, x5 = ms x4 70 (F : Int) := ⟨_, rfl⟩
    obtain ⟨x6, c1, c2, c3⟩ := m_279 (m := x5) (w := w) (F := F) (v2 := 26 + (kd : Int)) (v4 := (n : Int)) (v := v) (by omega) f8 (by rw [hx5]; exact x4_12) (fun f hf => by rw [hx5]; show x4.2 59 f = v f; rw [fx4.2 59 (by decide)]; exact x59 f hf)
    have tw : m5_judge_l176 w (26 + (kd : Int)) (f2 + 1) n x = if tru v (mnO W v) ns = false then some xg else (if ((kd = 0 ∧ anV W v = false) ∨ (kd ≠ 0 ∧ anV W v = true)) then m5_judge_l176 w (26 + (kd : Int)) f2 ((n : Int) + 1) x6 else some xg) := by
      have b266 : m5_judge_b266 (m5_judge_l176 w (26 + (kd : Int)) f2) w (26 + (kd : Int)) n x4 = m5_judge_l176 w (26 + (kd : Int)) f2 ((n : Int) + 1) x6 := by
        unfold m5_judge_b266
        rw [mald_e w rfl (by omega) (by omega), Option.bind_some, x4_12, Option.bind_some, ← hx5, c1, Option.bind_some]
      rw [m5_judge_l176.eq_2, i6, if_neg (by rw [w32_n (by omega), w32_n (by omega)]; omega), i8, if_neg (by decide), mald_e w rfl (by omega) (by omega), Option.bind_some, x12, b1, Option.bind_some, b2, Option.bind_some, x346]
      have b3' : m5_isTrue 13 0 (made : Int) x3 = some (b2i (tru v (mnO W v) ns), x4) := b3
      rw [b3', Option.bind_some]
      dsimp only
      rw [w32_b2i]
      cases htr : tru v (mnO W v) ns with
      | false =>
        rw [if_pos (show b2i false = 0 from rfl), if_pos rfl]
        unfold m5_judge_b239 m5_judge_b240
        rw [w32_id (x := 26 + (kd : Int)) (by omega) (by omega)]
        by_cases z : kd = 0
        · rw [if_pos (by omega), if_pos (by decide)]; exact y2
        · rw [if_neg (by omega), if_pos (by decide)]; exact y2
      | true =>
        rw [if_neg (show ¬ b2i true = 0 by decide), if_neg (by simp)]
        have ea : m5_answerOf w x4 = some (b2i (anV W v)) := m_ansOf (m := x4) (w := w) (by rw [slc_fr fx4 (by decide), slc_fr fx3 (by decide)]; exact sl2) (by omega) hM (fun f hf => ⟨by rw [fx4.2 59 (by decide)]; exact x59 f (by omega), (hvb f (by omega)).1, (hvb f (by omega)).2.2⟩)
        rw [ea, Option.bind_some, w32_b2i]
        unfold m5_judge_b239 m5_judge_b240
        rw [w32_id (x := 26 + (kd : Int)) (by omega) (by omega), b266, y2]
        cases han : anV W v with
        | false =>
          rw [if_pos (show b2i false = 0 from rfl)]
          by_cases z : kd = 0
          · rw [if_pos (by omega), if_neg (show ¬ w32 (b2i true) = 0 by decide), if_pos (by decide), if_pos (Or.inl ⟨z, rfl⟩)]
          · rw [if_neg (by omega), if_pos (by decide), if_neg (by rintro (q | q); exact z q.1; exact absurd q.2 (by simp))]
        | true =>
          rw [if_neg (show ¬ b2i true = 0 by decide)]
          by_cases z : kd = 0
          · rw [if_pos (by omega), if_neg (show ¬ w32 (b2i true) = 0 by decide), if_neg (by decide), if_neg (by rintro (q | q); exact absurd q.2 (by simp); exact q.1 z)]
          · rw [if_neg (by omega), if_neg (by decide), if_pos (Or.inr ⟨z, rfl⟩)]
    rw [cls, tw]
    by_cases htr : tru v (mnO W v) ns = false
    · rw [if_pos htr, if_pos htr]
      exact ⟨tg, xg, rfl, rfl, fxg, y4⟩
    · rw [if_neg htr, if_neg htr]
      by_cases hsh : (kd = 0 ∧ anV W v = false) ∨ (kd ≠ 0 ∧ anV W v = true)
      · rw [if_pos hsh, if_pos hsh]
        obtain ⟨f1, rfl⟩ : ∃ g, f1 = g + 1 := ⟨f1 - 1, by omega⟩
        obtain ⟨f2, rfl⟩ : ∃ g, f2 = g + 1 := ⟨f2 - 1, by omega⟩
        have x670 : x6.1 70 = (F : Int) := by rw [c2.1 70 (by decide), hx5, ms_1, if_pos rfl]
        have fr46 : mfr [70] [69] x4 x6 := mfr_tr (b := x5) (by rw [hx5]; exact mfr_ms mfr_rf (by decide)) (mfr_up c2 (by decide) (by decide))
        refine ⟨zsI t8 (L.1 115) 127 1, x6, ?_, ?_, mfr_tr (mfr_up fxA (fun k hk => List.mem_cons_of_mem _ hk) (fun k hk => List.mem_cons_of_mem _ hk)) (mfr_up fr46 (by decide) (by decide)), Or.inr ⟨t8, x4, v, I8, rfl, v40, x670, c3, fr46⟩⟩
        · rw [f3_judge_l16.eq_2, gfI_v (r := (N : Int)) (show zT (zsI t8 (L.1 115) 127 1) (L.1 115) = 4 from e115) (by rw [zsI_I, if_neg (fun z => absurd z.2 (by decide))]; exact I8.2.1.2.1), Option.bind_some]
          by_cases z : w64 (N : Int) ≤ w64 (w32 ((n : Int) + 1))
          · rw [if_pos z]
          · rw [if_neg z, gfI_v (r := 1) (show zT (zsI t8 (L.1 115) 127 1) (L.1 115) = 4 from e115) (by rw [zsI_I, if_pos ⟨rfl, rfl⟩]), Option.bind_some, if_neg (by decide)]
        · rw [m5_judge_l176.eq_2]
          by_cases z : w32 (x6.1 65) ≤ w32 ((n : Int) + 1)
          · rw [if_pos z]
          · rw [if_neg z, x670, if_pos (by rw [w32_n (by omega)]; omega)]
      · rw [if_neg hsh, if_neg hsh]
        exact ⟨tg, xg, rfl, rfl, fxg, y4⟩
