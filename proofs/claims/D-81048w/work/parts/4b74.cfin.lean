/-! THE READER: the end: finish on the class's side -/
/-- a wording that was read, at a; its list of starts l is empty -/
def FH (G : CG) (L : Ly) (t : Sg) (a : Nat) (W : Wv) (l b0 : Nat) : Prop := WM0 W ∧ cov W ∧ WR G L t a W ∧ (L.2 a = 0 ∧ G0 G ≤ a ∧ a < zN t) ∧ (zR t a 250 = some l ∧ LA t l b0 0 ∧ LW G t l b0 ∧ L.2 l = 0 ∧ l ≠ a ∧ b0 ≠ a ∧ (0 < zL t b0 → L.2 b0 = 0)) ∧ lsm (fun k => W 22 k - W 21 k) (nM W) + lsm (fun k => W 26 k - W 25 k) (nC W) + lsm (fun k => W 31 k - W 30 k) (nP W) = W 33 0
/-- the rows of starts, as the twin finds them -/
def NA (W : Wv) (ns : Nat → Nat) (as : Nat → Nat → Int) : Prop := ∀ f, f < nF W → SRT (ns f) (as f) (thr W f) ∧ 1 ≤ ns f ∧ ns f ≤ 601
theorem jP_cg {ns ns' : Nat → Nat} : ∀ k, (∀ g, g < k → ns' g = ns g) → jP ns' k = jP ns k := by
  intro k
  induction k with
  | zero => intro _; rfl
  | succ k ih => intro h; simp only [jP]; rw [ih (fun g hg => h g (by omega)), h k (by omega)]
/-- a fault at the end of the text -/
theorem c_flt7 {α : Type} {G : CG} {u : Sg} {o : Nat} {K P : Int} (hG : G0 G ≤ zN u) (hr : o < zN u) (h8 : zT u o = 1) (hP : zI u o 2 = P) : ∃ u', (bdU (zNew u 9 8) fun q => (gfI q.2 1 2 (some o)).bind fun x => (f8_init G (some q.1) K x q.2).bind fun u4 => (xth q.1 u4 : Option (((Nat ⊕ α) × Sg) × Nat × Nat))) = some ((.inl (zN u), u'), 1, 8) ∧ FLT u (zN u) K P u' := by
  have T : zT (znew u 9 0) (zN u) = 9 := by rw [znew_T, if_pos rfl]
  have R : zR (znew u 9 0) (zN u) 324 = none := by rw [znew_R, if_pos rfl]
  have T8 : zT (znew u 9 0) o = 1 := by rw [znew_T, if_neg (by omega)]; exact h8
  have I8 : zI (znew u 9 0) o 2 = P := by rw [znew_I, if_neg (by omega)]; exact hP
  obtain ⟨u2, hu2⟩ : ∃ u2, u2 = zsR (zsR (zsR (znew u 9 0) (zN u) 320 (some (zN u))) (zN u) 321 (G.2.2.2.2 9)) (zN u) 322 (G.2.2.2.2 10) := ⟨_, rfl⟩
  have e2 : fltI G (znew u 9 0) (zN u) = some u2 := by unfold fltI; rw [if_pos ⟨T, hG, R⟩, hu2]
  have T2 : zT u2 (zN u) = 9 := by rw [hu2]; exact T
  refine ⟨zsI (zsI u2 (zN u) 326 K) (zN u) 327 P, ?_, ?_, ?_, ?_, rfl, ?_, ?_, fun a ha => ?_⟩
  · unfold bdU zNew
    rw [Option.bind_some]
    dsimp only
    rw [gfI_v T8 I8, Option.bind_some]
    unfold f8_init
    rw [Option.bind_some, e2, Option.bind_some, pfI_e T2 hG, Option.bind_some, pfI_e (show zT (zsI u2 (zN u) 326 K) (zN u) = 9 from T2) hG, Option.bind_some, Option.bind_some]
    unfold xth
    rw [if_pos (show zT (zsI (zsI u2 (zN u) 326 K) (zN u) 327 P) (zN u) = 9 from T2)]
    rfl
  · exact T2
  · rw [zsI_I, if_neg (fun z => absurd z.2 (by decide)), zsI_I, if_pos ⟨rfl, rfl⟩]
  · rw [zsI_I, if_pos ⟨rfl, rfl⟩]
  · show zN u2 = _
    rw [hu2]; rfl
  · refine ⟨?_, fun x hx => ⟨?_, ?_⟩⟩
    · show zN u ≤ zN u2
      rw [hu2]; show zN u ≤ zN u + 1; omega
    · show zT u2 x = _
      rw [hu2]; show zT (znew u 9 0) x = _; rw [znew_T, if_neg (by omega)]
    · show zL u2 x = _
      rw [hu2]; show zL (znew u 9 0) x = _; rw [znew_L, if_neg (by omega)]
  · have hne : a ≠ zN u := by omega
    refine sam_zsI (sam_zsI ?_ hne) hne
    rw [hu2]
    exact sam_zsR (sam_zsR (sam_zsR (sam_znew sam_rf hne) hne) hne) hne
theorem c_fin {G : CG} {L : Ly} {t : Sg} {m : Mu} {a l b0 : Nat} {W : Wv} {ns : Nat → Nat} {as : Nat → Nat → Int} (h : RC G L t m) (hF : FH G L t a W l b0) (hN : NA W ns as) : ∃ (t1 : Sg) (cn : Nat → Nat) (ca : Nat → Nat → Int), f6_isParted_l5 G (some a) (some (L.1 146)) NN 1 0 t = some ((((min (jP ns (nF W)) 1000000 : Nat) : Int), t1), 0, 0) ∧ scr L t t1 ∧ ∀ f, f < nF W → ST L t1 f (cn f) (ca f) (W 18 f) ∧ cn f = ns f ∧ ∀ k, k < ns f → ca f k = as f k := by
  obtain ⟨f1, f2, f3, f4, -, -⟩ := hF
  obtain ⟨cn, ca, t1, e, s, r⟩ := c_p5 h f1 f2 f3 (by omega)
  have q : ∀ f, f < nF W → cn f = ns f ∧ ∀ k, k < cn f → ca f k = as f k := fun f hf => SRT_uniq (r f hf).2.1 (hN f hf).1
  refine ⟨t1, cn, ca, ?_, s, fun f hf => ⟨(r f hf).1, (q f hf).1, fun k hk => (q f hf).2 k (by rw [(q f hf).1]; exact hk)⟩⟩
  rw [e, jP_cg (nF W) (fun g hg => (q g hg).1)]
/-- too many cells -/
theorem c_finA {G : CG} {L : Ly} {t : Sg} {m : Mu} {a l b0 : Nat} {W : Wv} {ns : Nat → Nat} {as : Nat → Nat → Int} (h : RC G L t m) (hF : FH G L t a W l b0) (hN : NA W ns as) (hj : 2000 < jP ns (nF W)) : ∃ e t', f0_finish G (some (L.1 3)) (some a) t = some ((.inl e, t'), 1, 8) ∧ zT t' e = 9 ∧ zI t' e 326 = 7 ∧ zI t' e 327 = zI t (L.1 3) 2 ∧ e < zN t' ∧ RC G L t' m := by
  obtain ⟨t1, cn, ca, e1, s1, -⟩ := c_fin h hF hN
  obtain ⟨-, -, f3, ⟨f4, f5, f6⟩, -, -⟩ := hF
  have hR := h.1
  have R1 := RC_scr h s1
  have T1 : zT t1 a = 7 := by rw [s1.1]; exact f3.1
  obtain ⟨fl, el, q1, q2, -⟩ := f3.2.1
  have q2' := LF_k (frz_scr s1) q2
  obtain ⟨t2, ht2⟩ : ∃ t2, t2 = zsI t1 a 251 ((min (jP ns (nF W)) 1000000 : Nat) : Int) := ⟨_, rfl⟩
  have s2 : ∀ q, q ≠ a → sam t1 t2 q := fun q hq => by rw [ht2]; exact sam_zsI sam_rf hq
  have n3 : L.1 3 ≠ a := fun q => by have := rC3 hR; rw [q, f4] at this; omega
  have sa1 : zR t1 a 240 = some fl := by rw [(sam01 s1 (by omega)).2.2.2.1]; exact q1
  have e89 : f6_isParted_l89 G (some a) (some (L.1 146)) ((min (jP ns (nF W)) 1000000 : Nat) : Int) NN 0 t2 = some (t2, 0, 0) := by
    obtain ⟨fu, hfu⟩ : ∃ fu, NN = fu + 1 := ⟨NN - 1, by have := NN_ge; omega⟩
    have LF2 : LF L t2 fl (nF W) el := by
      obtain ⟨b, b1, b2, b3, b4⟩ := q2'
      refine ⟨b, LA_sam b1 (s2 fl (fun q => by rw [q, f4] at b2; omega)) (s2 b (fun q => by rw [q, f4] at b3; omega)) (by rw [ht2]; exact Nat.le_refl _) (fun x _ => by rw [ht2]; rfl), b2, b3, fun i hi => by rw [ht2]; exact b4 i hi⟩
    rw [hfu]
    unfold f6_isParted_l89
    rw [gfR_v (show zT t2 a = 7 by rw [ht2]; exact T1) (show zR t2 a 240 = some fl by rw [ht2]; exact sa1), Option.bind_some, ztg_e (lf_tag LF2), Option.bind_some, lf_size LF2, Option.bind_some]
    by_cases z : w32 ((nF W : Nat) : Int) ≤ w32 0
    · rw [if_pos z]
    · rw [if_neg z, w64_id (x := ((min (jP ns (nF W)) 1000000 : Nat) : Int)) (by omega) (by omega), if_pos (by omega)]
  have hN1 : zN t2 = zN t := by rw [ht2]; show zN t1 = _; exact s1.2.2.2.1
  have I3 : zI t2 (L.1 3) 2 = zI t (L.1 3) 2 := by
    rw [(s2 _ n3).2.2.1]
    exact (s1.2.2.2.2.2 (L.1 3) (by rw [rC3 hR]; decide)).2 2 (fun z => by have := rC3 hR; omega)
  obtain ⟨u', eF, g1, g2, g3, g4, g5, g6, g7⟩ := c_flt7 (α := Int) (G := G) (u := t2) (o := L.1 3) (K := 7) (P := zI t (L.1 3) 2) (by rw [hN1]; exact hR.2.2.2.2.1) (by rw [hN1]; exact hR.2.2.1 _ (by rw [rC3 hR]; decide)) (by rw [(s2 _ n3).1, s1.1]; exact rT3 hR) I3
  refine ⟨zN t2, u', ?_, g1, g2, g3, by omega, ?_⟩
  · unfold f0_finish
    rw [gfR_v (rT3 hR) (rR3_15 hR), Option.bind_some, gfR_v (rT115 hR) (rR115_120 hR), Option.bind_some, ztg_e f3.1, Option.bind_some]
    have eP : f6_isParted G (some a) (some (L.1 146)) t = some ((0, t2), 0, 0) := by
      unfold f6_isParted
      rw [e1, bdU_z, pfI_e T1 f5, Option.bind_some, ← ht2, e89, bdU_z]
      unfold f6_isParted_b141
      rw [w64_id (x := ((min (jP ns (nF W)) 1000000 : Nat) : Int)) (by omega) (by omega), if_pos (by omega)]
    rw [eP, bdU_z, if_pos (show w32 ((0 : Int), t2).1 = 0 from (by decide : w32 0 = 0))]
    exact eF
  · refine RC_ext R1 ⟨?_, fun _ _ => rfl, fun q hq => ?_⟩ (fun q hq => ?_) (fun _ _ => rfl)
    · refine gro_tr ⟨?_, fun x _ => ⟨?_, ?_⟩⟩ g6
      · rw [ht2]; exact Nat.le_refl _
      · rw [ht2]; rfl
      · rw [ht2]; rfl
    · have := hR.2.2.1 q hq; omega
    · have hq2 := hR.2.2.1 q hq
      exact sam_tr (s2 q (fun e => hq (by rw [e]; exact f4))) (g7 q (by omega))
