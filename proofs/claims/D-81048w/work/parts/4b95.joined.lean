/-! ENDORSE: the joined value -/
theorem hgt_w8 {nf nm : Int} (hf : nf ≤ 8) (hm : nm ≤ 12) : ∀ (ns : List Nd) (h : Nat), (∀ q ∈ ns, okN nf nm q) → hgt (ns.map w8n) h = hgt ns h := by
  intro ns
  induction ns with
  | nil => intro h _; rfl
  | cons q ns ih =>
    intro h ho
    have y2 := (okN_w8 hf hm (ho q (List.mem_cons_self ..))).2.1
    have ih' := fun h => ih h (fun q hq => ho q (List.mem_cons_of_mem _ hq))
    simp only [List.map_cons, hgt, y2, ih']
theorem isC_w8 {nf nm : Int} {ns : List Nd} (hf : nf ≤ 8) (hm : nm ≤ 12) (ho : ∀ q ∈ ns, okN nf nm q) (h : isC ns) : isC (ns.map w8n) := fun k => by rw [hgt_w8 hf hm ns k ho]; exact h k
theorem okN_map {nf nm : Int} {ns : List Nd} (hf : nf ≤ 8) (hm : nm ≤ 12) (ho : ∀ q ∈ ns, okN nf nm q) : ∀ q ∈ ns.map w8n, okN nf nm q := fun q hq => by
  obtain ⟨q0, q1, q2⟩ := List.mem_map.mp hq
  rw [← q2]; exact (okN_w8 hf hm (ho q0 q1)).1
/-- the value W2 that came of W and the clauses cs -/
def WJ (W W2 : Wv) (cs : List (Int × List Nd)) : Prop := (∀ k ∈ KW, ∀ j, j < wid k → W2 k j = W k j) ∧ (∀ k, k < nM W → seg W2 (W2 21 k) (W2 22 k) = (seg W (W 21 k) (W 22 k)).map w8n ∧ W2 22 k - W2 21 k = W 22 k - W 21 k) ∧ (W2 23 0 = (cs.length : Int) ∧ ∀ k, k < cs.length → cs[k]? = some (W2 24 k, seg W2 (W2 25 k) (W2 26 k)) ∧ W2 26 k - W2 25 k = ((seg W2 (W2 25 k) (W2 26 k)).length : Int)) ∧ (∀ k, k < nP W → seg W2 (W2 30 k) (W2 31 k) = (seg W (W 30 k) (W 31 k)).map w8n ∧ W2 31 k - W2 30 k = W 31 k - W 30 k)
theorem SGR_e {t : Mu} {w A B wd c k : Nat} {l : List (List Nd)} (h : SGR t w A B wd l c) (hc : c ≤ 300) (hA : wid A = wd ∧ wid B = wd) (hk : k < l.length) (hkw : k < wd) : l[k]? = some (seg (slc t w) (slc t w A k) (slc t w B k)) ∧ 0 ≤ slc t w A k ∧ slc t w A k ≤ slc t w B k ∧ slc t w B k ≤ (c : Int) ∧ slc t w B k - slc t w A k = ((seg (slc t w) (slc t w A k) (slc t w B k)).length : Int) := by
  obtain ⟨i, j, h1, h2, h3, h4, h5⟩ := h k hk
  have eA : slc t w A k = (i : Int) := by unfold slc; rw [hA.1, if_pos hkw]; exact h1
  have eB : slc t w B k = (j : Int) := by unfold slc; rw [hA.2, if_pos hkw]; exact h2
  rw [eA, eB, ← sgP_seg (by omega)]
  refine ⟨h5, by omega, by omega, by omega, ?_⟩
  unfold sgP
  rw [List.length_map, List.length_range]; omega
theorem BLT_fin {mB : Mu} {w T : Nat} {W : Wv} {cs : List (Int × List Nd)} (hM : WM W) (hKW : ∀ k ∈ KW, ∀ j, j < wid k → slc mB w k j = W k j) (hB : BLT mB w (rowN W 21 22 (nM W)) cs (rowN W 30 31 (nP W)) T) (hT : T ≤ 300) (hcs : cs.length ≤ 24) (hcl : ∀ q ∈ cs, (0 ≤ q.1 ∧ q.1 ≤ 2) ∧ isC q.2 ∧ ∀ x ∈ q.2, okN (nF W) (nM W) x) : WJ W (slc mB w) cs ∧ WM0 (slc mB w) ∧ cov (slc mB w) ∧ lsm (fun k => slc mB w 22 k - slc mB w 21 k) (nM (slc mB w)) + lsm (fun k => slc mB w 26 k - slc mB w 25 k) (nC (slc mB w)) + lsm (fun k => slc mB w 31 k - slc mB w 30 k) (nP (slc mB w)) = slc mB w 33 0 := by
  obtain ⟨W2, hW2⟩ : ∃ W2, W2 = slc mB w := ⟨_, rfl⟩
  obtain ⟨⟨a1, a2⟩, a3, ⟨a4, a5⟩, a6, a7, a8⟩ := hB
  have hM1 := hM.1
  have e12 := (nF_e hM).1
  have e19 : W 19 0 = (nM W : Int) := by unfold nM; omega
  have e27 : W 27 0 = (nP W : Int) := by unfold nP; omega
  have f8 : ((nF W : Nat) : Int) ≤ 8 := by have := (nF_e hM).2; omega
  have m12 : ((nM W : Nat) : Int) ≤ 12 := by omega
  rw [← hW2] at hKW ⊢
  have eF : nF W2 = nF W := by show (W2 12 0).toNat = _; rw [hKW 12 (by decide) 0 (by decide)]
  have eM : nM W2 = nM W := by show (W2 19 0).toNat = _; rw [hKW 19 (by decide) 0 (by decide)]
  have eP : nP W2 = nP W := by show (W2 27 0).toNat = _; rw [hKW 27 (by decide) 0 (by decide)]
  have e33 : W2 33 0 = (T : Int) := by
    rw [hW2]; unfold slc; rw [if_pos (show 0 < wid 33 by decide), show wid 33 * w + 0 = w by show 1 * w + 0 = w; omega]; exact a1
  have e23 : W2 23 0 = (cs.length : Int) := by
    rw [hW2]; unfold slc; rw [if_pos (show 0 < wid 23 by decide), show wid 23 * w + 0 = w by show 1 * w + 0 = w; omega]; exact a4
  have eC : nC W2 = cs.length := by show (W2 23 0).toNat = _; rw [e23]; simp
  have rM : ∀ k, k < nM W → (seg W2 (W2 21 k) (W2 22 k) = (seg W (W 21 k) (W 22 k)).map w8n ∧ W2 22 k - W2 21 k = W 22 k - W 21 k) ∧ 0 ≤ W2 21 k ∧ W2 21 k ≤ W2 22 k ∧ W2 22 k ≤ (T : Int) := fun k hk => by
    obtain ⟨q1, q2, q3, q4, q5⟩ := SGR_e (k := k) a3 hT ⟨rfl, rfl⟩ (by rw [rowN_len]; exact hk) (by omega)
    rw [← hW2] at q1 q2 q3 q4 q5
    have q1' : some ((seg W (W 21 k) (W 22 k)).map w8n) = some (seg W2 (W2 21 k) (W2 22 k)) := by
      rw [← q1]; unfold rowN; rw [List.getElem?_map, List.getElem?_range hk]; rfl
    have q6 := Option.some.inj q1'
    refine ⟨⟨q6.symm, ?_⟩, q2, q3, q4⟩
    have s := hM.2.2.1 k hk
    rw [q5, ← q6, List.length_map, seg_len]
    have := s.1; have := s.2.1; omega
  have rP : ∀ k, k < nP W → (seg W2 (W2 30 k) (W2 31 k) = (seg W (W 30 k) (W 31 k)).map w8n ∧ W2 31 k - W2 30 k = W 31 k - W 30 k) ∧ 0 ≤ W2 30 k ∧ W2 30 k ≤ W2 31 k ∧ W2 31 k ≤ (T : Int) := fun k hk => by
    obtain ⟨q1, q2, q3, q4, q5⟩ := SGR_e (k := k) a7 hT ⟨rfl, rfl⟩ (by rw [rowN_len]; exact hk) (by omega)
    rw [← hW2] at q1 q2 q3 q4 q5
    have q1' : some ((seg W (W 30 k) (W 31 k)).map w8n) = some (seg W2 (W2 30 k) (W2 31 k)) := by
      rw [← q1]; unfold rowN; rw [List.getElem?_map, List.getElem?_range hk]; rfl
    have q6 := Option.some.inj q1'
    refine ⟨⟨q6.symm, ?_⟩, q2, q3, q4⟩
    rw [q5, ← q6, List.length_map, seg_len]
    rcases (hM.2.2.2.2.1 k hk).2.2.2.2 with s | s
    · rw [s]; omega
    · have := s.2.1; have := s.2.2.1; omega
  have rC : ∀ k, k < cs.length → (cs[k]? = some (W2 24 k, seg W2 (W2 25 k) (W2 26 k)) ∧ W2 26 k - W2 25 k = ((seg W2 (W2 25 k) (W2 26 k)).length : Int)) ∧ 0 ≤ W2 25 k ∧ W2 25 k ≤ W2 26 k ∧ W2 26 k ≤ (T : Int) := fun k hk => by
    obtain ⟨q1, q2, q3, q4, q5⟩ := SGR_e (k := k) a6 hT ⟨rfl, rfl⟩ (by rw [List.length_map]; exact hk) (by omega)
    rw [← hW2] at q1 q2 q3 q4 q5
    have q24 := a5 k hk
    have e24 : mB.2 24 (24 * w + k) = W2 24 k := by rw [hW2]; unfold slc; rw [if_pos (show k < wid 24 by show k < 24; omega)]; rfl
    rw [e24] at q24
    rw [List.getElem?_map] at q1
    obtain ⟨x, hx⟩ : ∃ x, cs[k]? = some x := ⟨_, List.getElem?_eq_getElem hk⟩
    rw [hx] at q1 q24 ⊢
    have y1 : x.2 = seg W2 (W2 25 k) (W2 26 k) := Option.some.inj q1
    have y2 : x.1 = W2 24 k := Option.some.inj q24
    exact ⟨⟨by rw [← y1, ← y2], q5⟩, q2, q3, q4⟩
  have tm : ∀ k, k ≤ nP W → tmB W2 k = tmB W k := fun k hk => tmB_cg k (fun i hi => hKW 28 (by decide) i (by show i < 24; omega))
  have k8 : ∀ f, f < nF W → W2 14 f = W 14 f ∧ W2 15 f = W 15 f ∧ W2 17 f = W 17 f ∧ W2 18 f = W 18 f := fun f hf => by
    have : f < 8 := by omega
    exact ⟨hKW 14 (by decide) f this, hKW 15 (by decide) f this, hKW 17 (by decide) f this, hKW 18 (by decide) f this⟩
  have k24 : ∀ k, k < nP W → W2 28 k = W 28 k ∧ W2 29 k = W 29 k := fun k hk => ⟨hKW 28 (by decide) k (by show k < 24; omega), hKW 29 (by decide) k (by show k < 24; omega)⟩
  have k5 : ∀ k, k < 5 → W2 32 k = W 32 k := fun k hk => hKW 32 (by decide) k hk
  have w12 : W2 12 0 = W 12 0 := hKW 12 (by decide) 0 (by decide)
  have w19 : W2 19 0 = W 19 0 := hKW 19 (by decide) 0 (by decide)
  have w27 : W2 27 0 = W 27 0 := hKW 27 (by decide) 0 (by decide)
  refine ⟨⟨hKW, fun k hk => (rM k hk).1, ⟨e23, fun k hk => (rC k hk).1⟩, fun k hk => (rP k hk).1⟩, ⟨?_, fun f hf => ?_, fun k hk => ?_, fun k hk => ?_, fun k hk => ?_, ?_⟩, fun i hi => ?_, ?_⟩
  · rw [w12, w19, w27, e23, e33]; omega
  · rw [eF] at hf
    rw [(k8 f hf).1, (k8 f hf).2.1, (k8 f hf).2.2.1, (k8 f hf).2.2.2]
    exact hM.2.1 f hf
  · rw [eM] at hk
    obtain ⟨⟨r1, r2⟩, r3, r4, r5⟩ := rM k hk
    obtain ⟨s1, s2, s3, s4, s5⟩ := hM.2.2.1 k hk
    have s5' : ∀ q ∈ seg W (W 21 k) (W 22 k), okN (nF W) (k : Int) q := fun q hq => by have := s5 q hq; rw [e12] at this; exact this
    refine ⟨r3, by omega, by rw [e33]; exact r5, by rw [r1]; exact isC_w8 f8 (by omega) s5' s4, ?_⟩
    rw [r1, w12, e12]; exact okN_map f8 (by omega) s5'
  · rw [eC] at hk
    obtain ⟨⟨r1, r2⟩, r3, r4, r5⟩ := rC k hk
    have hmem := List.mem_of_getElem? r1
    obtain ⟨q1, q2, q3⟩ := hcl _ hmem
    have hne : 1 ≤ (seg W2 (W2 25 k) (W2 26 k)).length := isC_ne q2
    refine ⟨q1.1, q1.2, r3, by omega, by rw [e33]; exact r5, q2, ?_⟩
    rw [w12, w19, e12, e19]; exact q3
  · rw [eP] at hk
    obtain ⟨⟨r1, r2⟩, r3, r4, r5⟩ := rP k hk
    obtain ⟨s1, s2, s3, s4, s5⟩ := hM.2.2.2.2.1 k hk
    rw [(k24 k hk).1, (k24 k hk).2]
    refine ⟨s1, s2, s3, s4, ?_⟩
    rcases s5 with s5 | ⟨s6, s7⟩
    · left; omega
    · right
      have s7' : ∀ q ∈ seg W (W 30 k) (W 31 k), okN (nF W) (nM W) q := fun q hq => by have := s7.2.2.2.2 q hq; rw [e12, e19] at this; exact this
      refine ⟨s6, r3, by have := s7.2.1; omega, by rw [e33]; exact r5, by rw [r1]; exact isC_w8 f8 m12 s7' s7.2.2.2.1, ?_⟩
      rw [r1, w12, w19, e12, e19]; exact okN_map f8 m12 s7'
  · rw [k5 0 (by omega), k5 1 (by omega), k5 2 (by omega), k5 3 (by omega), k5 4 (by omega), eP]
    obtain ⟨q1, q2, q3, q4, q5, q6⟩ := hM.2.2.2.2.2.1
    exact ⟨q1, q2, q3, q4, q5, fun k hk => by rw [tm k hk]; exact q6 k hk⟩
  · rw [e33] at hi
    rw [eM, eC, eP]
    have cg : ∀ {A B wd n : Nat}, wid A = wd → wid B = wd → n ≤ wd → CVG mB w A B wd n i → ∃ k, k < n ∧ W2 A k ≤ (i : Int) ∧ (i : Int) < W2 B k := fun {A B wd n} hA hB hn ⟨k, k1, k2, k3⟩ => by
      refine ⟨k, k1, ?_, ?_⟩
      · rw [hW2]; unfold slc; rw [hA, if_pos (by omega)]; exact k2
      · rw [hW2]; unfold slc; rw [hB, if_pos (by omega)]; exact k3
    have := a8 i (by omega)
    rw [rowN_len, rowN_len] at this
    rcases this with q | q | q
    · exact Or.inl (cg (A := 21) (B := 22) (wd := 12) (n := nM W) rfl rfl (by omega) q)
    · exact Or.inr (Or.inl (cg (A := 25) (B := 26) (wd := 24) (n := cs.length) rfl rfl hcs q))
    · exact Or.inr (Or.inr (cg (A := 30) (B := 31) (wd := 24) (n := nP W) rfl rfl (by omega) q))
  · rw [eM, eC, eP, e33]
    have sum1 : ∀ (f : Nat → Int) (g : Nat → Nat) (n : Nat), (∀ k, k < n → f k = (g k : Int)) → lsm f n = (((List.range n).map g).sum : Nat) := by
      intro f g n
      induction n with
      | zero => intro _; rfl
      | succ n ih =>
        intro hk
        rw [lsm_s, ih (fun k h => hk k (by omega)), List.range_succ, List.map_append, List.sum_append, hk n (by omega)]
        simp
    have g1 : lsm (fun k => W2 22 k - W2 21 k) (nM W) = (((rowN W 21 22 (nM W)).map List.length).sum : Nat) := by
      rw [sum1 _ (fun k => ((seg W (W 21 k) (W 22 k)).map w8n).length) (nM W) (fun k hk => ?_)]
      · unfold rowN; rw [List.map_map]; rfl
      · rw [(rM k hk).1.2, List.length_map, seg_len]
        have s := hM.2.2.1 k hk
        have := s.1; have := s.2.1; omega
    have g3 : lsm (fun k => W2 31 k - W2 30 k) (nP W) = (((rowN W 30 31 (nP W)).map List.length).sum : Nat) := by
      rw [sum1 _ (fun k => ((seg W (W 30 k) (W 31 k)).map w8n).length) (nP W) (fun k hk => ?_)]
      · unfold rowN; rw [List.map_map]; rfl
      · rw [(rP k hk).1.2, List.length_map, seg_len]
        rcases (hM.2.2.2.2.1 k hk).2.2.2.2 with s | s
        · rw [s]; omega
        · have := s.2.1; have := s.2.2.1; omega
    have g2 : lsm (fun k => W2 26 k - W2 25 k) cs.length = ((cs.map (fun q => q.2.length)).sum : Nat) := by
      rw [sum1 _ (fun k => ((cs[k]?.map (fun q => q.2.length)).getD 0)) cs.length (fun k hk => ?_)]
      · congr 2
        apply List.ext_getElem?
        intro k
        rw [List.getElem?_map, List.getElem?_map]
        by_cases z : k < cs.length
        · rw [List.getElem?_range z]
          show some ((cs[k]?.map (fun q => q.2.length)).getD 0) = cs[k]?.map (fun q => q.2.length)
          rw [List.getElem?_eq_getElem z]; rfl
        · rw [List.getElem?_eq_none (by rw [List.length_range]; omega), List.getElem?_eq_none (by omega)]; rfl
      · rw [(rC k hk).1.2, (rC k hk).1.1]; rfl
    rw [g1, g2, g3]
    omega
