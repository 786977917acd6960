/-! STARTS: the class's joint -/
theorem sam01 {L : Ly} {u t : Sg} (h : scr L u t) {a : Nat} (ha : L.2 a ≤ 1) : sam u t a := scr_sam h (fun q => by simp only [SCR, List.mem_cons, List.not_mem_nil, or_false] at q; omega) (by omega) (by omega)
theorem CA_FGk {L : Ly} {G : CG} {u t : Sg} {W : Wv} {d c : Nat} {ns : List Nd} (hs : ∀ a, L.2 a ≤ 1 → sam u t a) (hg : gro u t) (h : CA (FG L u W) G u d c ns) : CA (FG L t W) G t d c ns := CA_sam (fun a ha => ⟨⟨ha.1, by rw [(hs a ha.1).1, (hs a ha.1).2.2.1]; exact ha.2⟩, hs a ha.1⟩) hg d c ns h
theorem LG_k {L : Ly} {u t : Sg} {a n : Nat} {el : Nat → Nat} (hs : ∀ a, L.2 a ≤ 1 → sam u t a) (hg : gro u t) (h : LG L u a n el) : LG L t a n el := by
  obtain ⟨b, h1, h2, h3, h4⟩ := h
  exact ⟨b, LA_sam h1 (hs a h2) (hs b h3) hg.1 (fun x hx => (hg.2 x hx).1), h2, h3, fun i hi => by rw [(hs b h3).2.2.2.2.2]; exact h4 i hi⟩
theorem WPt_k {G : CG} {L : Ly} {u t : Sg} {a : Nat} {W : Wv} (hs : ∀ a, L.2 a ≤ 1 → sam u t a) (hg : gro u t) (h : WPt G L u a W) : WPt G L t a W := by
  obtain ⟨⟨aT, aL⟩, ⟨l3, e3, a3, b3, c3⟩, ⟨l4, e4, a4, b4, c4⟩, ⟨l5, e5, a5, b5, c5⟩⟩ := h
  obtain ⟨p1, p2, p3, p4, p5, p6⟩ := hs a aL
  unfold WPt
  rw [p1, p4]
  refine ⟨⟨aT, aL⟩, ⟨l3, e3, a3, LG_k hs hg b3, fun k hk => CA_FGk hs hg (c3 k hk)⟩, ⟨l4, e4, a4, LG_k hs hg b4, fun k hk => ?_⟩, ⟨l5, e5, a5, LG_k hs hg b5, fun k hk => ?_⟩⟩
  · obtain ⟨q1, q2, c, q3, q4⟩ := c4 k hk
    exact ⟨q1, by rw [(hs _ q1).1]; exact q2, c, by rw [(hs _ q1).2.2.2.1]; exact q3, CA_FGk hs hg q4⟩
  · obtain ⟨q1, q2, q3⟩ := c5 k hk
    refine ⟨q1, by rw [(hs _ q1).1]; exact q2, ?_⟩
    rw [(hs _ q1).2.2.2.1]
    exact q3.imp id (fun ⟨z1, c, z2, z3⟩ => ⟨z1, c, z2, CA_FGk hs hg z3⟩)
def jP (ns : Nat → Nat) : Nat → Nat
  | 0 => 1
  | f + 1 => jP ns f * ns f
theorem jP_1 {ns : Nat → Nat} : ∀ f, (∀ g, g < f → 1 ≤ ns g) → 1 ≤ jP ns f := by
  intro f
  induction f with
  | zero => intro _; exact Nat.le_refl _
  | succ f ih =>
    intro h
    simp only [jP]
    exact Nat.mul_le_mul (ih (fun g hg => h g (by omega))) (h f (by omega))
theorem jA_P {ns : Nat → Nat} : ∀ f, (∀ g, g < f → 1 ≤ ns g) → (jA ns f ≤ 1000000 → jA ns f = jP ns f) ∧ (1000000 < jA ns f → 1000000 < jP ns f) := by
  intro f
  induction f with
  | zero => intro _; exact ⟨fun _ => rfl, fun h => h⟩
  | succ f ih =>
    intro h
    obtain ⟨i1, i2⟩ := ih (fun g hg => h g (by omega))
    have hf := h f (by omega)
    simp only [jA, jP]
    by_cases q : jA ns f ≤ 1000000
    · rw [if_pos q, i1 q]
      exact ⟨fun _ => rfl, id⟩
    · rw [if_neg q]
      refine ⟨fun z => absurd z q, fun _ => ?_⟩
      have := i2 (by omega)
      have : jP ns f * 1 ≤ jP ns f * ns f := Nat.mul_le_mul (Nat.le_refl _) hf
      omega
/-- the extra parts: of another wording, of a condition -/
def XB (G : CG) (L : Ly) (u : Sg) (W : Wv) (v2 : Option Nat) (PB : Nat → Int → Prop) (lB : List Int) : Prop := (v2 = none ∧ ∀ f x, ¬ PB f x) ∨ ∃ b V, v2 = some b ∧ WPt G L u b V ∧ WSg V ∧ (∀ f, f < nF W → V 14 f = W 14 f) ∧ (∀ f x, PB f x ↔ ∃ i : Nat, (i : Int) < V 33 0 ∧ thN f (nd V i) x) ∧ ∀ f x, PB f x → x ∈ lB
def XC (G : CG) (L : Ly) (u : Sg) (W : Wv) (v3 : Option Nat) (PC : Nat → Int → Prop) (lC : List Int) : Prop := (v3 = none ∧ ∀ f x, ¬ PC f x) ∨ ∃ c ns, v3 = some c ∧ CA (FG L u W) G u 100 c ns ∧ (∀ q ∈ ns, okN 8 12 q) ∧ (∀ f x, PC f x ↔ ∃ q ∈ ns, thN f q x) ∧ ∀ f x, PC f x → x ∈ lC
theorem XB_k {G : CG} {L : Ly} {u t : Sg} {W : Wv} {v2 : Option Nat} {PB : Nat → Int → Prop} {lB : List Int} (hs : ∀ a, L.2 a ≤ 1 → sam u t a) (hg : gro u t) (h : XB G L u W v2 PB lB) : XB G L t W v2 PB lB := h.imp id (fun ⟨b, V, h1, h2, h3⟩ => ⟨b, V, h1, WPt_k hs hg h2, h3⟩)
theorem XC_k {G : CG} {L : Ly} {u t : Sg} {W : Wv} {v3 : Option Nat} {PC : Nat → Int → Prop} {lC : List Int} (hs : ∀ a, L.2 a ≤ 1 → sam u t a) (hg : gro u t) (h : XC G L u W v3 PC lC) : XC G L t W v3 PC lC := h.imp id (fun ⟨c, ns, h1, h2, h3⟩ => ⟨c, ns, h1, CA_FGk hs hg h2, h3⟩)
/-- the numbers at which the nodes of a wording part -/
def thL (W : Wv) : List Int := (List.range 300).map (fun i => W 37 i) ++ (List.range 300).map (fun i => W 37 i + 1)
theorem thL_len (W : Wv) : (thL W).length = 600 := by
  unfold thL
  rw [List.length_append, List.length_map, List.length_map, List.length_range]
theorem thL_mem {W : Wv} {f : Int} {i : Nat} {x : Int} (hi : i < 300) (h : thN f (nd W i) x) : x ∈ thL W := by
  unfold thL
  rw [List.mem_append]
  rcases h.2.2 with z | z
  · exact Or.inl (List.mem_map.mpr ⟨i, List.mem_range.mpr hi, z.1.symm⟩)
  · exact Or.inr (List.mem_map.mpr ⟨i, List.mem_range.mpr hi, z.1.symm⟩)
def bsL (kind lo : Int) : List Int := if kind = 2 then [lo] else (List.range 6).map (fun k : Nat => (k : Int))
theorem bsL_len (kind lo : Int) : (bsL kind lo).length ≤ 6 := by unfold bsL; split <;> simp
theorem bsL_mem {kind lo hi x : Int} (hk : kind ≠ 2 → lo = 0 ∧ hi ≤ 5) (h : bsX kind lo hi x) : x ∈ bsL kind lo := by
  unfold bsX at h
  unfold bsL
  by_cases q : kind = 2
  · rw [if_pos q] at h ⊢
    rw [h]; exact List.mem_cons_self
  · rw [if_neg q] at h ⊢
    have := hk q
    exact List.mem_map.mpr ⟨x.toNat, List.mem_range.mpr (by omega), by omega⟩
/-- a fact's kind and bounds -/
def fkO (W : Wv) (f : Nat) : Prop := (0 ≤ W 14 f ∧ W 14 f ≤ 2) ∧ (0 ≤ W 17 f ∧ W 17 f ≤ W 18 f ∧ W 18 f ≤ 999999999) ∧ (W 14 f ≠ 2 → W 17 f = 0 ∧ W 18 f ≤ 5)
theorem fkO_of {W : Wv} (h : WM W) {f : Nat} (hf : f < nF W) : fkO W f := by
  obtain ⟨h1, h2, h3, h4, h5, h6, h7, h8⟩ := h.2.1 f hf
  refine ⟨⟨h1, h2⟩, ?_, fun q => ?_⟩
  · rcases (show W 14 f = 0 ∨ W 14 f = 1 ∨ W 14 f = 2 by omega) with q | q | q
    · have := h7 q; omega
    · have := h6 q; omega
    · have := h8 q; omega
  · rcases (show W 14 f = 0 ∨ W 14 f = 1 by omega) with q | q
    · have := h7 q; omega
    · have := h6 q; omega
theorem c_parted {G : CG} {L : Ly} {u : Sg} {m : Mu} (h : RC G L u m) {W : Wv} {wa : Nat} {v2 v3 : Option Nat} {PB PC : Nat → Int → Prop} {lB lC : List Int} (hM : WM W) (hA : WA G L u wa W) (hB : XB G L u W v2 PB lB) (hC : XC G L u W v3 PC lC) (hll : lB.length + lC.length ≤ 600) : ∃ (cn : Nat → Nat) (ca : Nat → Nat → Int) (u' : Sg), f3_isParted G (some (L.1 115)) (some wa) v2 v3 u = some (if jP cn (nF W) ≤ 20000 then 1 else 0, u') ∧ (scr L u u' ∧ zR u' = zR u) ∧ zI u' (L.1 115) 121 = (nF W : Int) ∧ zI u' (L.1 115) 122 = ((min (jP cn (nF W)) 1000000 : Nat) : Int) ∧ ∀ f, f < nF W → ST L u' f (cn f) (ca f) (W 18 f) ∧ SRT (cn f) (ca f) (stX (W 14 f) (W 17 f) (W 18 f) (fun x => ((∃ i : Nat, (i : Int) < W 33 0 ∧ thN f (nd W i) x) ∨ PB f x) ∨ PC f x)) ∧ 1 ≤ cn f ∧ cn f ≤ 1219 ∧ ∀ k, k < cn f → 0 ≤ ca f k ∧ ca f k ≤ 999999999 := by
  have hR := h.1
  obtain ⟨h12, h8⟩ := nF_e hM
  have w33 := hM.1.2.2.2.2.2.2.2.2
  obtain ⟨⟨aL, aT⟩, ⟨l1, el, a1, b1, c1⟩, -⟩ := id hA
  have hlist := hR.2.2.2.2.2.2
  -- one fact
  have key := loop_ind (fun q (s : ((Nat × (Nat → Nat)) × (Nat → Nat → Int)) × Sg) => f3_isParted_l21 G (some (L.1 115)) (some wa) v2 v3 q (s.1.1.1 : Int) s.2) (fun s => 10 - s.1.1.1) (fun s => s.1.1.1 ≤ nF W ∧ (scr L u s.2 ∧ zR s.2 = zR u) ∧ zI s.2 (L.1 115) 121 = (nF W : Int) ∧ zI s.2 (L.1 115) 122 = ((min (jP s.1.1.2 s.1.1.1) 1000000 : Nat) : Int) ∧ ∀ f, f < s.1.1.1 → ST L s.2 f (s.1.1.2 f) (s.1.2 f) (W 18 f) ∧ SRT (s.1.1.2 f) (s.1.2 f) (stX (W 14 f) (W 17 f) (W 18 f) (fun x => ((∃ i : Nat, (i : Int) < W 33 0 ∧ thN f (nd W i) x) ∨ PB f x) ∨ PC f x)) ∧ 1 ≤ s.1.1.2 f ∧ s.1.1.2 f ≤ 1219 ∧ ∀ k, k < s.1.1.2 f → 0 ≤ s.1.2 f k ∧ s.1.2 f k ≤ 999999999) (fun _ r => ∃ (cn : Nat → Nat) (ca : Nat → Nat → Int), (scr L u r ∧ zR r = zR u) ∧ zI r (L.1 115) 121 = (nF W : Int) ∧ zI r (L.1 115) 122 = ((min (jP cn (nF W)) 1000000 : Nat) : Int) ∧ ∀ f, f < nF W → ST L r f (cn f) (ca f) (W 18 f) ∧ SRT (cn f) (ca f) (stX (W 14 f) (W 17 f) (W 18 f) (fun x => ((∃ i : Nat, (i : Int) < W 33 0 ∧ thN f (nd W i) x) ∨ PB f x) ∨ PC f x)) ∧ 1 ≤ cn f ∧ cn f ≤ 1219 ∧ ∀ k, k < cn f → 0 ≤ ca f k ∧ ca f k ≤ 999999999) (by
    rintro q ⟨⟨⟨f, cn⟩, ca⟩, t⟩ ⟨hf, ⟨hs, hz0⟩, h21, h22, hI⟩ ih
    dsimp only at hf hs hz0 h21 h22 hI ⊢
    show ok (f3_isParted_l21 G (some (L.1 115)) (some wa) v2 v3 (q + 1) (f : Int) t) _
    unfold f3_isParted_l21
    have ht := RC_scr h hs
    have hRt := ht.1
    refine ok_eq (gfI_v (rT115 hRt) h21) ?_
    rw [w32_n (by omega), w32_n (by omega)]
    refine ok_ite (fun hz => ok_some ⟨cn, ca, ⟨hs, hz0⟩, h21, by rw [show nF W = f by omega]; exact h22, by rw [show nF W = f by omega]; exact hI⟩) (fun hz => ?_)
    have hfn : f < nF W := by omega
    have f8 : f < 8 := by omega
    have fz := frz_scr hs
    obtain ⟨lb, k1, k2, k3, k4⟩ := LF_k fz hlist
    obtain ⟨fb, j1, j2, j3, j4⟩ := LF_k fz b1
    obtain ⟨x1, x2, -, x4, -, x6, x7, -⟩ := FA_k fz (c1 f hfn)
    have tA := WA_k fz hA
    obtain ⟨⟨t1, t2, t3⟩, -⟩ := rSt hRt f8
    obtain ⟨⟨fk1, fk2⟩, ⟨fk3, fk4, fk5⟩, fk6⟩ := fkO_of hM hfn
    have a1' : zR t wa 240 = some l1 := by rw [(fz.2 wa aL).2.2.2.2.1]; exact a1
    refine ok_eq (gfR_v (rT115 hRt) (rR115_120 hRt)) (ok_eq (ztg_e k1.1) (ok_eq (J_get k1 f rfl (by omega)) ?_))
    rw [k4 f f8]
    refine ok_eq (zcast_1 t1) (ok_eq (gfR_v tA.1.2 a1') (ok_eq (ztg_e j1.1) (ok_eq (J_get j1 f rfl hfn) ?_)))
    rw [j4 f hfn]
    refine ok_eq (zcast_1 x2) (ok_eq (ztg_e t1) ?_)
    -- the list of all numbers that may come
    obtain ⟨l, hl⟩ : ∃ l, l = bsL (W 14 f) (W 17 f) ++ (thL W ++ (lB ++ lC)) := ⟨_, rfl⟩
    have hlen : l.length < 1220 := by
      rw [hl, List.length_append, List.length_append, List.length_append, thL_len]
      have := bsL_len (W 14 f) (W 17 f)
      omega
    have m1 : ∀ x, bsX (W 14 f) (W 17 f) (W 18 f) x → x ∈ l := fun x hx => by rw [hl, List.mem_append]; exact Or.inl (bsL_mem fk6 hx)
    have m2 : ∀ x, x ∈ thL W → x ∈ l := fun x hx => by rw [hl, List.mem_append, List.mem_append]; exact Or.inr (Or.inl hx)
    have m3 : ∀ x, x ∈ lB → x ∈ l := fun x hx => by rw [hl, List.mem_append, List.mem_append, List.mem_append]; exact Or.inr (Or.inr (Or.inl hx))
    have m4 : ∀ x, x ∈ lC → x ∈ l := fun x hx => by rw [hl, List.mem_append, List.mem_append, List.mem_append]; exact Or.inr (Or.inr (Or.inr hx))
    obtain ⟨u1, e1, s1, q1⟩ := c_begin hRt f8 (a := el f) (l := l) x2 x4 x6 x7 (by omega) ⟨fk1, fk2⟩ ⟨fk3, fk4, fk5⟩ fk6 m1
    have wA := WA_Pt tA
    obtain ⟨u2, e2, s2, q2⟩ := c_wpart hRt f8 (WM_sg hM) wA hlen ⟨fk3, fk5⟩ (fun i hi x hx => m2 x (thL_mem (by omega) hx)) s1 q1
    have n2 : zT u2 (L.1 115) = 4 := by rw [s2.1.1]; exact rT115 hRt
    refine ok_eq e1 (ok_eq (ztg_e (by rw [s1.1.1]; exact tA.1.2)) (ok_eq e2 ?_))
    -- the last step
    have fin : ∀ w, scs L f t w → SQ L w f (W 17 f) (W 18 f) l (stX (W 14 f) (W 17 f) (W 18 f) (fun x => ((∃ i : Nat, (i : Int) < W 33 0 ∧ thN f (nd W i) x) ∨ PB f x) ∨ PC f x)) → ok (f3_isParted_b97 G (f3_isParted_l21 G (some (L.1 115)) (some wa) v2 v3 q) (some (L.1 115)) (some wa) v2 v3 (f : Int) (some (L.1 (160 + f))) w) (fun r => ∃ (cn : Nat → Nat) (ca : Nat → Nat → Int), (scr L u r ∧ zR r = zR u) ∧ zI r (L.1 115) 121 = (nF W : Int) ∧ zI r (L.1 115) 122 = ((min (jP cn (nF W)) 1000000 : Nat) : Int) ∧ ∀ f, f < nF W → ST L r f (cn f) (ca f) (W 18 f) ∧ SRT (cn f) (ca f) (stX (W 14 f) (W 17 f) (W 18 f) (fun x => ((∃ i : Nat, (i : Int) < W 33 0 ∧ thN f (nd W i) x) ∨ PB f x) ∨ PC f x)) ∧ 1 ≤ cn f ∧ cn f ≤ 1219 ∧ ∀ k, k < cn f → 0 ≤ ca f k ∧ ca f k ≤ 999999999) := by
      intro w hw hq
      obtain ⟨n, a, ⟨p1, p2, p3⟩, p4, p5, p6, p7, p8⟩ := hq
      have hn := SRT_len p4 p8
      have cI : ∀ g, zI w (L.1 115) g = zI t (L.1 115) g := fun g => by rw [hw.2.1 _ (by rw [rC115 hRt]; omega)]
      unfold f3_isParted_b97
      refine ok_eq (gfI_v (r := ((min (jP cn f) 1000000 : Nat) : Int)) (by rw [hw.1.1]; exact rT115 hRt) (by rw [cI]; exact h22)) (ok_eq (gfI_v (by rw [hw.1.1]; exact t1) p1) (ok_eq (pfI_e (by rw [hw.1.1]; exact rT115 hRt) (rG115 hRt)) ?_))
      have hws := scr_tr hs (scs_scr f8 hw)
      have hjm : ∀ g, g ≤ f → jP (fun g => if g = f then n else cn g) g = jP cn g := by
        intro g
        induction g with
        | zero => intro _; rfl
        | succ g ihg => intro hg; simp only [jP]; rw [ihg (by omega), if_neg (show ¬ g = f by omega)]
      have hmin : mn64 (((min (jP cn f) 1000000 : Nat) : Int) * w32 (n : Int)) 1000000 = ((min (jP (fun g => if g = f then n else cn g) (f + 1)) 1000000 : Nat) : Int) := by
        have e : jP (fun g => if g = f then n else cn g) (f + 1) = jP cn f * n := by simp only [jP]; rw [hjm f (Nat.le_refl _), if_pos trivial]
        rw [e, w32_n (by omega), ← Int.natCast_mul]
        have hb : min (jP cn f) 1000000 * n ≤ 1000000 * 1219 := Nat.mul_le_mul (Nat.min_le_right _ _) (by omega)
        unfold mn64
        rw [w64_id (x := 1000000) (by omega) (by omega), w64_id (x := ((min (jP cn f) 1000000 * n : Nat) : Int)) (by omega) (by omega)]
        by_cases c0 : jP cn f ≤ 1000000
        · rw [show min (jP cn f) 1000000 = jP cn f by omega]
          split <;> omega
        · rw [show min (jP cn f) 1000000 = 1000000 by omega]
          have : jP cn f * 1 ≤ jP cn f * n := Nat.mul_le_mul (Nat.le_refl _) p5
          split <;> omega
      rw [hmin]
      refine ih (((f + 1, fun g => if g = f then n else cn g), fun g => if g = f then a else ca g), zsI w (L.1 115) 122 ((min (jP (fun g => if g = f then n else cn g) (f + 1)) 1000000 : Nat) : Int)) ⟨by show f + 1 ≤ nF W; omega, ⟨scr_I hws (Or.inr ⟨rC115 hR, Or.inr rfl⟩), by show zR w = zR u; rw [hw.1.2.2.1, hz0]⟩, ?_, ?_, fun g hg => ?_⟩ (by show 10 - (f + 1) < 10 - f; omega)
      · dsimp only
        rw [zsI_I, if_neg (fun z => absurd z.2 (by decide)), cI]; exact h21
      · dsimp only
        rw [zsI_I, if_pos ⟨rfl, rfl⟩]
      · dsimp only at hg ⊢
        by_cases gf : g = f
        · subst gf
          rw [if_pos rfl, if_pos rfl]
          refine ⟨⟨?_, ?_, p3⟩, p4, p5, by omega, fun k hk => ⟨?_, by have := p7 k hk; omega⟩⟩
          · rw [zI_ne (rne t2 (rC115 hRt) (by omega))]; exact p1
          · rw [zI_ne (rne t2 (rC115 hRt) (by omega))]; exact p2
          · have := SRT_le p4 (Nat.zero_le k) hk
            omega
        · rw [if_neg gf, if_neg gf]
          obtain ⟨⟨y1, y2, y3⟩, y4⟩ := hI g (by omega)
          obtain ⟨⟨z1, z2, z3⟩, ⟨z4, z5, z6, z7⟩, -⟩ := rSt hRt (f := g) (by omega)
          refine ⟨⟨?_, ?_, fun k hk => ?_⟩, y4⟩
          · rw [zI_ne (rne z2 (rC115 hRt) (by omega)), hw.2.1 _ (by omega)]; exact y1
          · rw [zI_ne (rne z2 (rC115 hRt) (by omega)), hw.2.1 _ (by omega)]; exact y2
          · rw [zsI_A, hw.2.2 _ (by omega)]; exact y3 k hk
    -- the condition
    have cond : ∀ w, scs L f t w → SQ L w f (W 17 f) (W 18 f) l (stX (W 14 f) (W 17 f) (W 18 f) (fun x => (∃ i : Nat, (i : Int) < W 33 0 ∧ thN f (nd W i) x) ∨ PB f x)) → ok (f3_isParted_b85 G (f3_isParted_l21 G (some (L.1 115)) (some wa) v2 v3 q) (some (L.1 115)) (some wa) v2 v3 (f : Int) (some (L.1 (160 + f))) w) (fun r => ∃ (cn : Nat → Nat) (ca : Nat → Nat → Int), (scr L u r ∧ zR r = zR u) ∧ zI r (L.1 115) 121 = (nF W : Int) ∧ zI r (L.1 115) 122 = ((min (jP cn (nF W)) 1000000 : Nat) : Int) ∧ ∀ f, f < nF W → ST L r f (cn f) (ca f) (W 18 f) ∧ SRT (cn f) (ca f) (stX (W 14 f) (W 17 f) (W 18 f) (fun x => ((∃ i : Nat, (i : Int) < W 33 0 ∧ thN f (nd W i) x) ∨ PB f x) ∨ PC f x)) ∧ 1 ≤ cn f ∧ cn f ≤ 1219 ∧ ∀ k, k < cn f → 0 ≤ ca f k ∧ ca f k ≤ 999999999) := by
      intro w hw hq
      unfold f3_isParted_b85
      rcases XC_k (fun a ha => sam01 hs ha) (scr_gro hs) hC with ⟨y1, y2⟩ | ⟨c, ns, y1, y2, y3, y4, y5⟩
      · exact ok_pos y1 (fin w hw (SQ_cg hq (fun x => ⟨fun z => stX_mono z Or.inl, fun z => stX_mono z (fun y => y.elim id (fun y => absurd y (y2 f x)))⟩)))
      · obtain ⟨w', e', s', q'⟩ := c_part hRt f8 (nm := 12) hlen ⟨fk3, fk5⟩ (F := FG L t W) (kind := W 14 f) (fun q hq => ⟨by have := hq.1; omega, by have := hq.1; omega, fun z1 z2 z3 => hq.2 z1 (by rw [z3]; exact z2)⟩) 100 c ns y2 y3 (fun q hq x hx => m4 x (y5 f x ((y4 f x).mpr ⟨q, hq, hx⟩))) DD (by decide) w _ hw hq
        refine ok_neg (by rw [y1]; simp) ?_
        rw [y1] at fin ⊢
        exact ok_eq e' (fin w' s' (SQ_cg q' (fun x => ⟨fun z => stX_mono z (fun y => y.imp id (y4 f x).mpr), fun z => stX_mono z (fun y => y.imp id (y4 f x).mp)⟩)))
    rcases XB_k (fun a ha => sam01 hs ha) (scr_gro hs) hB with ⟨y1, y2⟩ | ⟨b, V, y1, y2, y3, y4, y5, y6⟩
    · exact ok_pos y1 (cond u2 s2 (SQ_cg q2 (fun x => ⟨fun z => stX_mono z (fun y => y.elim (fun y => y.elim) Or.inl), fun z => stX_mono z (fun y => y.elim Or.inr (fun y => absurd y (y2 f x)))⟩)))
    · rw [← y4 f hfn] at q2
      obtain ⟨w', e', s', q'⟩ := c_wpart hRt f8 y3 y2 hlen ⟨fk3, fk5⟩ (fun i hi x hx => m3 x (y6 f x ((y5 f x).mpr ⟨i, hi, hx⟩))) s2 q2
      rw [y4 f hfn] at q'
      refine ok_neg (by rw [y1]; simp) ?_
      rw [y1] at cond ⊢
      exact ok_eq (ztg_e (by rw [s2.1.1]; exact y2.1.1)) (ok_eq e' (cond w' s' (SQ_cg q' (fun x => ⟨fun z => stX_mono z (fun y => y.imp (fun y => y.elim (fun y => y.elim) id) (y5 f x).mpr), fun z => stX_mono z (fun y => y.imp Or.inr (y5 f x).mp)⟩))))) NN (((0, fun _ => 0), fun _ _ => 0), zsI (zsI u (L.1 115) 121 (nF W : Int)) (L.1 115) 122 1) ⟨Nat.zero_le _, ⟨scr_I (scr_I scr_rf (Or.inr ⟨rC115 hR, Or.inl rfl⟩)) (Or.inr ⟨rC115 hR, Or.inr rfl⟩), rfl⟩, by
        dsimp only
        rw [zsI_I, if_neg (fun z => absurd z.2 (by decide)), zsI_I, if_pos ⟨rfl, rfl⟩], by
        dsimp only
        rw [zsI_I, if_pos ⟨rfl, rfl⟩]; rfl, fun f hf => by dsimp only at hf; omega⟩ (NN_gt (by show 10 - 0 < 100000; omega))
  obtain ⟨r, e, cn, ca, r1, r2, r3, r4⟩ := key
  have e : f3_isParted_l21 G (some (L.1 115)) (some wa) v2 v3 NN 0 (zsI (zsI u (L.1 115) 121 (nF W : Int)) (L.1 115) 122 1) = some r := e
  refine ⟨cn, ca, r, ?_, r1, r2, r3, r4⟩
  have hRr := (RC_scr h r1.1).1
  obtain ⟨fb, j1, j2, j3, j4⟩ := id b1
  unfold f3_isParted
  refine ok_is (ok_eq (gfR_v aT a1) (ok_eq (ztg_e j1.1) (ok_eq (J_size j1) (ok_eq (pfI_e (rT115 hR) (rG115 hR)) (ok_eq (pfI_e (show zT u (L.1 115) = 4 from rT115 hR) (rG115 hR)) (ok_eq e (ok_eq (gfI_v (rT115 hRr) r3) ?_)))))))
  rw [w64_id (x := ((min (jP cn (nF W)) 1000000 : Nat) : Int)) (by omega) (by omega)]
  by_cases z : jP cn (nF W) ≤ 20000
  · rw [if_neg (by omega), if_pos z]; exact ok_some rfl
  · rw [if_pos (by omega), if_neg z]; exact ok_some rfl
