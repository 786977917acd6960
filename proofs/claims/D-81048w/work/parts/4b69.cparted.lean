/-! THE READER: the end: the class parts the facts of a new wording -/
theorem c_p5 {G : CG} {L : Ly} {u : Sg} {m : Mu} (h : RC G L u m) {W : Wv} {wa : Nat} (hM : WM0 W) (hc : cov W) (hA : WR G L u wa W) (ha : L.2 wa ≤ 1) : ∃ (cn : Nat → Nat) (ca : Nat → Nat → Int) (u' : Sg), f6_isParted_l5 G (some wa) (some (L.1 146)) NN 1 0 u = some ((((min (jP cn (nF W)) 1000000 : Nat) : Int), u'), 0, 0) ∧ scr L u u' ∧ ∀ f, f < nF W → ST L u' f (cn f) (ca f) (W 18 f) ∧ SRT (cn f) (ca f) (thr W f) ∧ 1 ≤ cn f ∧ cn f ≤ 1219 := by
  have hR := h.1
  have hfs := WM0_FS hM hc
  have h8 : nF W ≤ 8 := by have := hM.1; show (W 12 0).toNat ≤ 8; omega
  have w33 := hM.1.2.2.2.2.2.2.2.2
  have hlist := hR.2.2.2.2.2.2
  have key := loop_ind (fun q (s : ((Nat × (Nat → Nat)) × (Nat → Nat → Int)) × Sg) => f6_isParted_l5 G (some wa) (some (L.1 146)) q ((min (jP s.1.1.2 s.1.1.1) 1000000 : Nat) : Int) (s.1.1.1 : Int) s.2) (fun s => 10 - s.1.1.1) (fun s => s.1.1.1 ≤ nF W ∧ scr L u s.2 ∧ ∀ f, f < s.1.1.1 → ST L s.2 f (s.1.1.2 f) (s.1.2 f) (W 18 f) ∧ SRT (s.1.1.2 f) (s.1.2 f) (thr W f) ∧ 1 ≤ s.1.1.2 f ∧ s.1.1.2 f ≤ 1219) (fun _ r => ∃ (cn : Nat → Nat) (ca : Nat → Nat → Int), (r.1.1 = ((min (jP cn (nF W)) 1000000 : Nat) : Int) ∧ r.2 = (0, 0)) ∧ scr L u r.1.2 ∧ ∀ f, f < nF W → ST L r.1.2 f (cn f) (ca f) (W 18 f) ∧ SRT (cn f) (ca f) (thr W f) ∧ 1 ≤ cn f ∧ cn f ≤ 1219) (by
    rintro q ⟨⟨⟨f, cn⟩, ca⟩, t⟩ ⟨hf, hs, hI⟩ ih
    dsimp only at hf hs hI ⊢
    show ok (f6_isParted_l5 G (some wa) (some (L.1 146)) (q + 1) ((min (jP cn f) 1000000 : Nat) : Int) (f : Int) t) _
    unfold f6_isParted_l5
    have ht := RC_scr h hs
    have hRt := ht.1
    have fz := frz_scr hs
    have sa := sam01 hs ha
    have tA : WR G L t wa W := WR_k fz sa.1 (fun j _ => by rw [sa.2.2.2.1]) (fun j _ => by rw [sa.2.2.1]) hA
    obtain ⟨t0, ⟨l1, el, a1, ⟨fb, j1, j2, j3, j4⟩, c1⟩, -⟩ := id tA
    refine ok_eq (gfR_v t0 a1) (ok_eq (ztg_e j1.1) (ok_eq (J_size j1) ?_))
    rw [w32_n (by omega), w32_n (by omega)]
    refine ok_ite (fun hz => ok_some ⟨cn, ca, ⟨by rw [show nF W = f by omega], rfl⟩, hs, by rw [show nF W = f by omega]; exact hI⟩) (fun hz => ?_)
    have hfn : f < nF W := by omega
    have f8 : f < 8 := by omega
    obtain ⟨lb, k1, k2, k3, k4⟩ := LF_k fz hlist
    obtain ⟨x1, x2, -, x4, -, x6, x7, -⟩ := c1 f hfn
    obtain ⟨⟨t1, t2, t3⟩, -⟩ := rSt hRt f8
    obtain ⟨⟨fk1, fk2⟩, ⟨fk3, fk4, fk5⟩, fk6⟩ := hfs.2.2.1 f hfn
    refine ok_eq (ztg_e k1.1) (ok_eq (J_get k1 f rfl (by omega)) ?_)
    rw [k4 f f8]
    refine ok_eq (zcast_1 t1) (ok_eq (gfR_v t0 a1) (ok_eq (ztg_e j1.1) (ok_eq (J_get j1 f rfl hfn) ?_)))
    rw [j4 f hfn]
    refine ok_eq (zcast_1 x2) (ok_eq (ztg_e t1) ?_)
    obtain ⟨l, hl⟩ : ∃ l, l = bsL (W 14 f) (W 17 f) ++ thL W := ⟨_, rfl⟩
    have hlen : l.length < 1220 := by
      rw [hl, List.length_append, thL_len]
      have := bsL_len (W 14 f) (W 17 f)
      omega
    have m1 : ∀ x, bsX (W 14 f) (W 17 f) (W 18 f) x → x ∈ l := fun x hx => by rw [hl, List.mem_append]; exact Or.inl (bsL_mem fk6 hx)
    have m2 : ∀ x, x ∈ thL W → x ∈ l := fun x hx => by rw [hl, List.mem_append]; exact Or.inr hx
    obtain ⟨u1, e1, s1, q1⟩ := c_begin hRt f8 (a := el f) (l := l) x2 x4 x6 x7 (by omega) ⟨fk1, fk2⟩ ⟨fk3, fk4, fk5⟩ fk6 m1
    obtain ⟨w, e2, hw, q2⟩ := c_wpart hRt f8 (WM0_sg hM hc) (WR_Pt ha tA) hlen ⟨fk3, fk5⟩ (fun i hi x hx => m2 x (thL_mem (by omega) hx)) s1 q1
    obtain ⟨n, a, ⟨p1, p2, p3⟩, p4, p5, p6, p7, p8⟩ := q2
    have hn := SRT_len p4 p8
    have p4' : SRT n a (thr W f) := SRT_cg p4 (fun _ _ => rfl) (fun x => ⟨fun z => stX_mono z (fun y => y.elim (fun y => y.elim) id), fun z => stX_mono z Or.inr⟩)
    refine ok_eq e1 (ok_eq (ztg_e (by rw [s1.1.1]; exact t0)) (ok_eq e2 (ok_eq (gfI_v (by rw [hw.1.1]; exact t1) p1) ?_)))
    have hws := scr_tr hs (scs_scr f8 hw)
    have hjm : ∀ g, g ≤ f → jP (fun g => if g = f then n else cn g) g = jP cn g := by
      intro g
      induction g with
      | zero => intro _; rfl
      | succ g ihg => intro hg; simp only [jP]; rw [ihg (by omega), if_neg (show ¬ g = f by omega)]
    have hmin : mn64 (((min (jP cn f) 1000000 : Nat) : Int) * w32 (n : Int)) 1000000 = ((min (jP (fun g => if g = f then n else cn g) (f + 1)) 1000000 : Nat) : Int) := by
      have e : jP (fun g => if g = f then n else cn g) (f + 1) = jP cn f * n := by simp only [jP]; rw [hjm f (Nat.le_refl _), if_pos trivial]
      rw [e, w32_n (by omega), ← Int.natCast_mul]
      have hb : min (jP cn f) 1000000 * n ≤ 1000000 * 1219 := Nat.mul_le_mul (Nat.min_le_right _ _) (by omega)
      unfold mn64
      rw [w64_id (x := 1000000) (by omega) (by omega), w64_id (x := ((min (jP cn f) 1000000 * n : Nat) : Int)) (by omega) (by omega)]
      by_cases c0 : jP cn f ≤ 1000000
      · rw [show min (jP cn f) 1000000 = jP cn f by omega]
        split <;> omega
      · rw [show min (jP cn f) 1000000 = 1000000 by omega]
        have : jP cn f * 1 ≤ jP cn f * n := Nat.mul_le_mul (Nat.le_refl _) p5
        split <;> omega
    rw [hmin]
    refine ih (((f + 1, fun g => if g = f then n else cn g), fun g => if g = f then a else ca g), w) ⟨by show f + 1 ≤ nF W; omega, hws, fun g hg => ?_⟩ (by show 10 - (f + 1) < 10 - f; omega)
    dsimp only at hg ⊢
    by_cases gf : g = f
    · subst gf
      rw [if_pos rfl, if_pos rfl]
      exact ⟨⟨p1, p2, p3⟩, p4', p5, by omega⟩
    · rw [if_neg gf, if_neg gf]
      obtain ⟨⟨y1, y2, y3⟩, y4⟩ := hI g (by omega)
      obtain ⟨⟨z1, z2, z3⟩, ⟨z4, z5, z6, z7⟩, -⟩ := rSt hRt (f := g) (by omega)
      refine ⟨⟨?_, ?_, fun k hk => ?_⟩, y4⟩
      · rw [hw.2.1 _ (by omega)]; exact y1
      · rw [hw.2.1 _ (by omega)]; exact y2
      · rw [hw.2.2 _ (by omega)]; exact y3 k hk) NN (((0, fun _ => 0), fun _ _ => 0), u) ⟨Nat.zero_le _, scr_rf, fun f hf => by dsimp only at hf; omega⟩ (NN_gt (by show 10 - 0 < 100000; omega))
  obtain ⟨⟨⟨v, u'⟩, cs⟩, e, cn, ca, ⟨r1, r2⟩, r3, r4⟩ := key
  have r1 : v = ((min (jP cn (nF W)) 1000000 : Nat) : Int) := r1
  have r2 : cs = (0, 0) := r2
  subst r1
  subst r2
  exact ⟨cn, ca, u', e, r3, r4⟩
