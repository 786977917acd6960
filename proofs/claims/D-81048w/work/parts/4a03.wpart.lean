/-! STARTS: a wording's part -/
/-- a list that is frozen or new -/
def LG (L : Ly) (u : Sg) (a n : Nat) (el : Nat → Nat) : Prop := ∃ b, LA u a b n ∧ L.2 a ≤ 1 ∧ L.2 b ≤ 1 ∧ ∀ i, i < n → zB u b i = some (el i)
def FG (L : Ly) (u : Sg) (W : Wv) (q : Nat) : Prop := L.2 q ≤ 1 ∧ (zT u q = 14 → W 14 (zI u q 520).toNat ≠ 2)
/-- the parts of a wording that part its facts -/
def WPt (G : CG) (L : Ly) (u : Sg) (a : Nat) (W : Wv) : Prop :=
  (zT u a = 7 ∧ L.2 a ≤ 1) ∧
  (∃ l el, zR u a 242 = some l ∧ LG L u l (nM W) el ∧ ∀ k, k < nM W → CA (FG L u W) G u 100 (el k) (seg W (W 21 k) (W 22 k))) ∧
  (∃ l el, zR u a 243 = some l ∧ LG L u l (nC W) el ∧ ∀ k, k < nC W → L.2 (el k) ≤ 1 ∧ zT u (el k) = 17 ∧ ∃ c, zR u (el k) 641 = some c ∧ CA (FG L u W) G u 100 c (seg W (W 25 k) (W 26 k))) ∧
  (∃ l el, zR u a 244 = some l ∧ LG L u l (nP W) el ∧ ∀ k, k < nP W → L.2 (el k) ≤ 1 ∧ zT u (el k) = 18 ∧ ((zR u (el k) 682 = none ∧ W 30 k = W 31 k) ∨ (W 30 k < W 31 k ∧ ∃ c, zR u (el k) 682 = some c ∧ CA (FG L u W) G u 100 c (seg W (W 30 k) (W 31 k)))))
/-- the rows of a wording's value that are read -/
def WSg (W : Wv) : Prop := (0 ≤ W 12 0 ∧ W 12 0 ≤ 8 ∧ 0 ≤ W 19 0 ∧ W 19 0 ≤ 12 ∧ 0 ≤ W 23 0 ∧ W 23 0 ≤ 24 ∧ 0 ≤ W 27 0 ∧ W 27 0 ≤ 24 ∧ 0 ≤ W 33 0 ∧ W 33 0 ≤ 300) ∧
  (∀ k, k < nM W → sgO W k (W 21 k) (W 22 k)) ∧ (∀ k, k < nC W → sgO W (W 19 0) (W 25 k) (W 26 k)) ∧ (∀ k, k < nP W → W 30 k = W 31 k ∨ sgO W (W 19 0) (W 30 k) (W 31 k)) ∧ cov W
theorem WM_sg {W : Wv} (h : WM W) : WSg W := ⟨h.1, h.2.2.1, fun k hk => (h.2.2.2.1 k hk).2.2, fun k hk => (h.2.2.2.2.1 k hk).2.2.2.2.imp id (fun z => z.2), h.2.2.2.2.2.2.2.2.2.2.2⟩
theorem LF_G {L : Ly} {u : Sg} {a n : Nat} {el : Nat → Nat} (h : LF L u a n el) : LG L u a n el := by
  obtain ⟨b, h1, h2, h3, h4⟩ := h
  exact ⟨b, h1, by omega, by omega, h4⟩
theorem CA_FG {L : Ly} {G : CG} {u : Sg} {W : Wv} {d c : Nat} {ns : List Nd} (h : CA (FW L u W) G u d c ns) : CA (FG L u W) G u d c ns := CA_sam (fun a ha => ⟨⟨by rw [ha.1]; exact Nat.le_refl _, ha.2⟩, sam_rf⟩) gro_rf d c ns h
theorem WA_Pt {G : CG} {L : Ly} {u : Sg} {a : Nat} {W : Wv} (h : WA G L u a W) : WPt G L u a W := by
  obtain ⟨⟨h1, h2⟩, -, -, ⟨l3, e3, a3, b3, c3⟩, ⟨l4, e4, a4, b4, c4⟩, ⟨l5, e5, a5, b5, c5⟩, -⟩ := h
  refine ⟨⟨h2, by omega⟩, ⟨l3, e3, a3, LF_G b3, fun k hk => CA_FG (c3 k hk)⟩, ⟨l4, e4, a4, LF_G b4, fun k hk => ?_⟩, ⟨l5, e5, a5, LF_G b5, fun k hk => ?_⟩⟩
  · obtain ⟨q1, q2, -, -, c, q3, q4⟩ := c4 k hk
    exact ⟨by omega, q2, c, q3, CA_FG q4⟩
  · obtain ⟨q1, q2, -, -, q3⟩ := c5 k hk
    exact ⟨by omega, q2, q3.imp id (fun ⟨z1, c, z2, z3⟩ => ⟨z1, c, z2, CA_FG z3⟩)⟩
theorem mem_seg {W : Wv} {i j : Int} {q : Nd} (hi : 0 ≤ i) : q ∈ seg W i j ↔ ∃ k : Nat, i ≤ (k : Int) ∧ (k : Int) < j ∧ q = nd W k := by
  unfold seg
  rw [List.mem_map]
  constructor
  · rintro ⟨k, hk, rfl⟩
    rw [List.mem_range] at hk
    exact ⟨i.toNat + k, by omega, by omega, rfl⟩
  · rintro ⟨k, h1, h2, rfl⟩
    exact ⟨k - i.toNat, by rw [List.mem_range]; omega, by rw [show i.toNat + (k - i.toNat) = k by omega]⟩
theorem okN_8 {W : Wv} {nm nm' : Int} {q : Nd} (h8 : W 12 0 ≤ 8) (hm : nm ≤ nm') (h : okN (W 12 0) nm q) : okN 8 nm' q := ⟨h.1, h.2.1, fun z => by have := h.2.2.1 z; omega, fun z => by have := h.2.2.2 z; omega⟩
theorem LG_s {L : Ly} {f : Nat} (hf : f < 8) {u t : Sg} {a n : Nat} {el : Nat → Nat} (hs : scs L f u t) (h : LG L u a n el) : ∃ b, LA t a b n ∧ ∀ i, i < n → zB t b i = some (el i) := by
  obtain ⟨b, h1, h2, h3, h4⟩ := h
  exact ⟨b, LA_sam h1 (scs_sam hs (by omega) (by omega)) (scs_sam hs (by omega) (by omega)) (by rw [hs.1.2.2.2.2]; exact Nat.le_refl _) (fun x _ => by rw [hs.1.1]), fun i hi => by rw [hs.1.2.2.2.1]; exact h4 i hi⟩
theorem c_wpart {G : CG} {L : Ly} {u t : Sg} {a f : Nat} {W : Wv} {lo hi : Int} {l : List Int} {P : Int → Prop} (hR : Rt G u L) (hf : f < 8) (hW : WSg W) (hA : WPt G L u a W) (hl : l.length < 1220) (hb : 0 ≤ lo ∧ hi ≤ 999999999) (hvl : ∀ i : Nat, (i : Int) < W 33 0 → ∀ x, thN f (nd W i) x → x ∈ l) (hs : scs L f u t) (hq : SQ L t f lo hi l (stX (W 14 f) lo hi P)) : ∃ t', f6_part G (some a) f (some (L.1 (160 + f))) t = some t' ∧ scs L f u t' ∧ SQ L t' f lo hi l (stX (W 14 f) lo hi (fun x => P x ∨ ∃ i : Nat, (i : Int) < W 33 0 ∧ thN f (nd W i) x)) := by
  obtain ⟨⟨w1, w2, w3, w4, w5, w6, w7, w8, w9, w10⟩, g1, g2, g3, hcov⟩ := hW
  obtain ⟨⟨aT, aL⟩, ⟨l3, e3, a3, b3, c3⟩, ⟨l4, e4, a4, b4, c4⟩, ⟨l5, e5, a5, b5, c5⟩⟩ := hA
  have nm12 : nM W ≤ 12 := by show (W 19 0).toNat ≤ 12; omega
  have nc24 : nC W ≤ 24 := by show (W 23 0).toNat ≤ 24; omega
  have np24 : nP W ≤ 24 := by show (W 27 0).toNat ≤ 24; omega
  have hF : FP L u f (W 14 f) (FG L u W) := fun q hq => ⟨by have := hq.1; omega, by have := hq.1; omega, fun z1 z2 z3 => hq.2 z1 (by rw [z3]; exact z2)⟩
  have one : ∀ {nm i j : Int} {c : Nat} {w : Sg} {Q : Int → Prop}, nm ≤ 12 → sgO W nm i j → CA (FG L u W) G u 100 c (seg W i j) → scs L f u w → SQ L w f lo hi l (stX (W 14 f) lo hi Q) → ∃ w', kv_part G DD (some c) f (some (L.1 (160 + f))) w = some w' ∧ scs L f u w' ∧ SQ L w' f lo hi l (stX (W 14 f) lo hi (fun x => Q x ∨ ∃ k : Nat, (i ≤ (k : Int) ∧ (k : Int) < j) ∧ thN f (nd W k) x)) := by
    intro nm i j c w Q hnm hsg hca hw hqw
    obtain ⟨w', e', s', q'⟩ := c_part hR hf (nm := 12) hl hb hF 100 c _ hca (fun q hq => okN_8 w2 hnm (hsg.2.2.2.2 q hq)) (fun q hq x hx => by
      obtain ⟨k, k1, k2, rfl⟩ := (mem_seg hsg.1).mp hq
      exact hvl k (by have := hsg.2.2.1; omega) x hx) DD (by decide) w Q hw hqw
    refine ⟨w', e', s', SQ_cg q' (fun x => ⟨fun z => stX_mono z (fun y => y.imp id ?_), fun z => stX_mono z (fun y => y.imp id ?_)⟩)⟩
    · rintro ⟨q, q1, q2⟩
      obtain ⟨k, k1, k2, rfl⟩ := (mem_seg hsg.1).mp q1
      exact ⟨k, ⟨k1, k2⟩, q2⟩
    · rintro ⟨k, ⟨k1, k2⟩, q2⟩
      exact ⟨_, (mem_seg hsg.1).mpr ⟨k, k1, k2, rfl⟩, q2⟩
  have cond : ∀ {c d : Nat} {ns : List Nd}, CA (FG L u W) G u d c ns → zT u c ∈ [12, 13, 14, 15, 16] := by
    intro c d ns h
    cases d with
    | zero => exact absurd h (by simp [CA])
    | succ d => obtain ⟨-, q | q | q | q | q⟩ := h <;> rw [q.1] <;> decide
  -- meanings
  have key1 := loop_ind (fun q (w : Nat × Sg) => f6_part_l2 G (some a) f (some (L.1 (160 + f))) q (w.1 : Int) w.2) (fun w => 100 - w.1) (fun w => w.1 ≤ nM W ∧ scs L f u w.2 ∧ SQ L w.2 f lo hi l (stX (W 14 f) lo hi (fun x => P x ∨ ∃ j, j < w.1 ∧ ∃ k : Nat, (W 21 j ≤ (k : Int) ∧ (k : Int) < W 22 j) ∧ thN f (nd W k) x))) (fun _ r => scs L f u r ∧ SQ L r f lo hi l (stX (W 14 f) lo hi (fun x => P x ∨ ∃ j, j < nM W ∧ ∃ k : Nat, (W 21 j ≤ (k : Int) ∧ (k : Int) < W 22 j) ∧ thN f (nd W k) x))) (by
    rintro q ⟨i, w⟩ ⟨hi, hw, hqw⟩ hrec
    dsimp only at hi hw hqw ⊢
    show ok (f6_part_l2 G (some a) f (some (L.1 (160 + f))) (q + 1) (i : Int) w) _
    unfold f6_part_l2
    have wT : zT w a = 7 := by rw [hw.1.1]; exact aT
    have wR : zR w a 242 = some l3 := by rw [hw.1.2.2.1]; exact a3
    obtain ⟨bb, wl, wb⟩ := LG_s hf hw b3
    refine ok_eq (gfR_v wT wR) (ok_eq (ztg_e wl.1) (ok_eq (J_size wl) ?_))
    rw [w32_n (by omega), w32_n (by omega)]
    refine ok_ite (fun hc => ok_some ⟨hw, by rw [show i = nM W by omega] at hqw; exact hqw⟩) (fun hc => ?_)
    have hin : i < nM W := by omega
    refine ok_eq (gfR_v wT wR) (ok_eq (ztg_e wl.1) (ok_eq (J_get wl i rfl hin) ?_))
    rw [wb i hin]
    obtain ⟨w', e', s', q'⟩ := one (by omega) (g1 i hin) (c3 i hin) hw hqw
    refine ok_eq (zcast_e (by rw [hw.1.1]; exact cond (c3 i hin))) (ok_eq e' ?_)
    refine hrec (i + 1, w') ⟨by show i + 1 ≤ nM W; omega, s', SQ_cg q' (fun x => ⟨fun z => stX_mono z ?_, fun z => stX_mono z ?_⟩)⟩ (by show 100 - (i + 1) < 100 - i; omega)
    · rintro ((y | ⟨j, j1, y⟩) | y)
      · exact Or.inl y
      · exact Or.inr ⟨j, by dsimp only; omega, y⟩
      · exact Or.inr ⟨i, by dsimp only; omega, y⟩
    · rintro (y | ⟨j, j1, y⟩)
      · exact Or.inl (Or.inl y)
      · by_cases hj : j = i
        · rw [hj] at y; exact Or.inr y
        · exact Or.inl (Or.inr ⟨j, by dsimp only at j1; omega, y⟩)) NN (0, t) ⟨Nat.zero_le _, hs, SQ_cg hq (fun x => ⟨fun z => stX_mono z Or.inl, fun z => stX_mono z (fun y => y.elim id (fun ⟨i, hi, _⟩ => by dsimp only at hi; omega))⟩)⟩ (NN_gt (by show 100 - 0 < 100000; omega))
  obtain ⟨t1, x1, s1, q1⟩ := key1
  -- clauses
  have key2 := loop_ind (fun q (w : Nat × Sg) => f6_part_l41 G (some a) f (some (L.1 (160 + f))) q (w.1 : Int) w.2) (fun w => 100 - w.1) (fun w => w.1 ≤ nC W ∧ scs L f u w.2 ∧ SQ L w.2 f lo hi l (stX (W 14 f) lo hi (fun x => (P x ∨ ∃ j, j < nM W ∧ ∃ k : Nat, (W 21 j ≤ (k : Int) ∧ (k : Int) < W 22 j) ∧ thN f (nd W k) x) ∨ ∃ j, j < w.1 ∧ ∃ k : Nat, (W 25 j ≤ (k : Int) ∧ (k : Int) < W 26 j) ∧ thN f (nd W k) x))) (fun _ r => scs L f u r ∧ SQ L r f lo hi l (stX (W 14 f) lo hi (fun x => (P x ∨ ∃ j, j < nM W ∧ ∃ k : Nat, (W 21 j ≤ (k : Int) ∧ (k : Int) < W 22 j) ∧ thN f (nd W k) x) ∨ ∃ j, j < nC W ∧ ∃ k : Nat, (W 25 j ≤ (k : Int) ∧ (k : Int) < W 26 j) ∧ thN f (nd W k) x))) (by
    rintro q ⟨i, w⟩ ⟨hi, hw, hqw⟩ hrec
    dsimp only at hi hw hqw ⊢
    show ok (f6_part_l41 G (some a) f (some (L.1 (160 + f))) (q + 1) (i : Int) w) _
    unfold f6_part_l41
    have wT : zT w a = 7 := by rw [hw.1.1]; exact aT
    have wR : zR w a 243 = some l4 := by rw [hw.1.2.2.1]; exact a4
    obtain ⟨bb, wl, wb⟩ := LG_s hf hw b4
    refine ok_eq (gfR_v wT wR) (ok_eq (ztg_e wl.1) (ok_eq (J_size wl) ?_))
    rw [w32_n (by omega), w32_n (by omega)]
    refine ok_ite (fun hc => ok_some ⟨hw, by rw [show i = nC W by omega] at hqw; exact hqw⟩) (fun hc => ?_)
    have hin : i < nC W := by omega
    obtain ⟨y1, y2, c, y3, y4⟩ := c4 i hin
    have y2' : zT w (e4 i) = 17 := by rw [hw.1.1]; exact y2
    refine ok_eq (gfR_v wT wR) (ok_eq (ztg_e wl.1) (ok_eq (J_get wl i rfl hin) ?_))
    rw [wb i hin]
    obtain ⟨w', e', s', q'⟩ := one (by omega) (g2 i hin) y4 hw hqw
    refine ok_eq (zcast_1 y2') (ok_eq (gfR_v y2' (by rw [hw.1.2.2.1]; exact y3)) (ok_eq e' ?_))
    refine hrec (i + 1, w') ⟨by show i + 1 ≤ nC W; omega, s', SQ_cg q' (fun x => ⟨fun z => stX_mono z ?_, fun z => stX_mono z ?_⟩)⟩ (by show 100 - (i + 1) < 100 - i; omega)
    · rintro ((y | ⟨j, j1, y⟩) | y)
      · exact Or.inl y
      · exact Or.inr ⟨j, by dsimp only; omega, y⟩
      · exact Or.inr ⟨i, by dsimp only; omega, y⟩
    · rintro (y | ⟨j, j1, y⟩)
      · exact Or.inl (Or.inl y)
      · by_cases hj : j = i
        · rw [hj] at y; exact Or.inr y
        · exact Or.inl (Or.inr ⟨j, by dsimp only at j1; omega, y⟩)) NN (0, t1) ⟨Nat.zero_le _, s1, SQ_cg q1 (fun x => ⟨fun z => stX_mono z Or.inl, fun z => stX_mono z (fun y => y.elim id (fun ⟨i, hi, _⟩ => by dsimp only at hi; omega))⟩)⟩ (NN_gt (by show 100 - 0 < 100000; omega))
  obtain ⟨t2, x2, s2, q2⟩ := key2
  -- price rows
  have key3 := loop_ind (fun q (w : Nat × Sg) => f6_part_l83 G (some a) f (some (L.1 (160 + f))) q (w.1 : Int) w.2) (fun w => 100 - w.1) (fun w => w.1 ≤ nP W ∧ scs L f u w.2 ∧ SQ L w.2 f lo hi l (stX (W 14 f) lo hi (fun x => ((P x ∨ ∃ j, j < nM W ∧ ∃ k : Nat, (W 21 j ≤ (k : Int) ∧ (k : Int) < W 22 j) ∧ thN f (nd W k) x) ∨ ∃ j, j < nC W ∧ ∃ k : Nat, (W 25 j ≤ (k : Int) ∧ (k : Int) < W 26 j) ∧ thN f (nd W k) x) ∨ ∃ j, j < w.1 ∧ ∃ k : Nat, (W 30 j ≤ (k : Int) ∧ (k : Int) < W 31 j) ∧ thN f (nd W k) x))) (fun _ r => scs L f u r ∧ SQ L r f lo hi l (stX (W 14 f) lo hi (fun x => ((P x ∨ ∃ j, j < nM W ∧ ∃ k : Nat, (W 21 j ≤ (k : Int) ∧ (k : Int) < W 22 j) ∧ thN f (nd W k) x) ∨ ∃ j, j < nC W ∧ ∃ k : Nat, (W 25 j ≤ (k : Int) ∧ (k : Int) < W 26 j) ∧ thN f (nd W k) x) ∨ ∃ j, j < nP W ∧ ∃ k : Nat, (W 30 j ≤ (k : Int) ∧ (k : Int) < W 31 j) ∧ thN f (nd W k) x))) (by
    rintro q ⟨i, w⟩ ⟨hi, hw, hqw⟩ hrec
    dsimp only at hi hw hqw ⊢
    show ok (f6_part_l83 G (some a) f (some (L.1 (160 + f))) (q + 1) (i : Int) w) _
    unfold f6_part_l83
    have wT : zT w a = 7 := by rw [hw.1.1]; exact aT
    have wR : zR w a 244 = some l5 := by rw [hw.1.2.2.1]; exact a5
    obtain ⟨bb, wl, wb⟩ := LG_s hf hw b5
    refine ok_eq (gfR_v wT wR) (ok_eq (ztg_e wl.1) (ok_eq (J_size wl) ?_))
    rw [w32_n (by omega), w32_n (by omega)]
    refine ok_ite (fun hc => ok_some ⟨hw, by rw [show i = nP W by omega] at hqw; exact hqw⟩) (fun hc => ?_)
    have hin : i < nP W := by omega
    obtain ⟨y1, y2, y3⟩ := c5 i hin
    have y2' : zT w (e5 i) = 18 := by rw [hw.1.1]; exact y2
    refine ok_eq (gfR_v wT wR) (ok_eq (ztg_e wl.1) (ok_eq (J_get wl i rfl hin) ?_))
    rw [wb i hin]
    rcases y3 with ⟨y3, y4⟩ | ⟨y5, c, y3, y4⟩
    · refine ok_eq (zcast_1 y2') (ok_eq (gfR_v y2' (by rw [hw.1.2.2.1]; exact y3)) (ok_pos rfl ?_))
      refine hrec (i + 1, w) ⟨by show i + 1 ≤ nP W; omega, hw, SQ_cg hqw (fun x => ⟨fun z => stX_mono z ?_, fun z => stX_mono z ?_⟩)⟩ (by show 100 - (i + 1) < 100 - i; omega)
      · rintro (y | ⟨j, j1, y⟩)
        · exact Or.inl y
        · exact Or.inr ⟨j, by dsimp only; omega, y⟩
      · rintro (y | ⟨j, j1, y⟩)
        · exact Or.inl y
        · by_cases hj : j = i
          · obtain ⟨k, k1, -⟩ := y
            rw [hj] at k1; omega
          · exact Or.inr ⟨j, by dsimp only at j1; omega, y⟩
    · have hsg : sgO W (W 19 0) (W 30 i) (W 31 i) := (g3 i hin).elim (fun z => by omega) id
      obtain ⟨w', e', s', q'⟩ := one (by omega) hsg y4 hw hqw
      refine ok_eq (zcast_1 y2') (ok_eq (gfR_v (r := some c) y2' (by rw [hw.1.2.2.1]; exact y3)) (ok_neg (by simp) ?_))
      refine ok_eq (gfR_v wT wR) (ok_eq (ztg_e wl.1) (ok_eq (J_get wl i rfl hin) ?_))
      rw [wb i hin]
      refine ok_eq (zcast_1 y2') (ok_eq (gfR_v y2' (by rw [hw.1.2.2.1]; exact y3)) (ok_eq e' ?_))
      refine hrec (i + 1, w') ⟨by show i + 1 ≤ nP W; omega, s', SQ_cg q' (fun x => ⟨fun z => stX_mono z ?_, fun z => stX_mono z ?_⟩)⟩ (by show 100 - (i + 1) < 100 - i; omega)
      · rintro ((y | ⟨j, j1, y⟩) | y)
        · exact Or.inl y
        · exact Or.inr ⟨j, by dsimp only; omega, y⟩
        · exact Or.inr ⟨i, by dsimp only; omega, y⟩
      · rintro (y | ⟨j, j1, y⟩)
        · exact Or.inl (Or.inl y)
        · by_cases hj : j = i
          · rw [hj] at y; exact Or.inr y
          · exact Or.inl (Or.inr ⟨j, by dsimp only at j1; omega, y⟩)) NN (0, t2) ⟨Nat.zero_le _, s2, SQ_cg q2 (fun x => ⟨fun z => stX_mono z Or.inl, fun z => stX_mono z (fun y => y.elim id (fun ⟨i, hi, _⟩ => by dsimp only at hi; omega))⟩)⟩ (NN_gt (by show 100 - 0 < 100000; omega))
  obtain ⟨t3, x3, s3, q3⟩ := key3
  refine ⟨t3, ?_, s3, SQ_cg q3 (fun x => ⟨fun z => stX_mono z ?_, fun z => stX_mono z ?_⟩)⟩
  · unfold f6_part
    have x1 : f6_part_l2 G (some a) f (some (L.1 (160 + f))) NN 0 t = some t1 := x1
    have x2 : f6_part_l41 G (some a) f (some (L.1 (160 + f))) NN 0 t1 = some t2 := x2
    have x3 : f6_part_l83 G (some a) f (some (L.1 (160 + f))) NN 0 t2 = some t3 := x3
    rw [x1, Option.bind_some, x2, Option.bind_some, x3, Option.bind_some]
  · rintro (((y | ⟨j, j1, k, k1, k2⟩) | ⟨j, j1, k, k1, k2⟩) | ⟨j, j1, k, k1, k2⟩)
    · exact Or.inl y
    · exact Or.inr ⟨k, by have := (g1 j j1).2.2.1; omega, k2⟩
    · exact Or.inr ⟨k, by have := (g2 j j1).2.2.1; omega, k2⟩
    · refine Or.inr ⟨k, ?_, k2⟩
      rcases g3 j j1 with z | z
      · omega
      · have := z.2.2.1; omega
  · rintro (y | ⟨k, k1, k2⟩)
    · exact Or.inl (Or.inl (Or.inl y))
    · rcases hcov k k1 with ⟨j, j1, j2, j3⟩ | ⟨j, j1, j2, j3⟩ | ⟨j, j1, j2, j3⟩
      · exact Or.inl (Or.inl (Or.inr ⟨j, j1, k, ⟨j2, j3⟩, k2⟩))
      · exact Or.inl (Or.inr ⟨j, j1, k, ⟨j2, j3⟩, k2⟩)
      · exact Or.inr ⟨j, j1, k, ⟨j2, j3⟩, k2⟩
/-- begin: the first starts of a fact -/
theorem c_begin {G : CG} {L : Ly} {u : Sg} (hR : Rt G u L) {f a : Nat} (hf : f < 8) {kind lo hi : Int} {l : List Int} (hT : zT u a = 10) (h1 : zI u a 361 = kind) (h2 : zI u a 364 = lo) (h3 : zI u a 365 = hi) (ha : L.2 a ≤ 1) (hk : 0 ≤ kind ∧ kind ≤ 2) (hlo : 0 ≤ lo ∧ lo ≤ hi ∧ hi ≤ 999999999) (hki : kind ≠ 2 → lo = 0 ∧ hi ≤ 5) (hl : ∀ x, bsX kind lo hi x → x ∈ l) : ∃ u', f4_begin G (some (L.1 (160 + f))) (some a) u = some u' ∧ scs L f u u' ∧ SQ L u' f lo hi l (stX kind lo hi (fun _ => False)) := by
  obtain ⟨⟨t1, t2, t3⟩, ⟨r1, r2, r3, r4⟩, rr⟩ := rSt hR hf
  have na : a ≠ L.1 (160 + f) := fun q => by rw [q, t2] at ha; omega
  have stb : ∀ x, bsX kind lo hi x ↔ stX kind lo hi (fun _ => False) x := fun x => ⟨Or.inl, fun z => z.elim id (fun z => z.2.2.elim)⟩
  show ok (f4_begin G (some (L.1 (160 + f))) (some a) u) (fun u' => scs L f u u' ∧ SQ L u' f lo hi l (stX kind lo hi (fun _ => False)))
  unfold f4_begin
  refine ok_eq (pfI_e t1 t3) (ok_eq (gfI_v (r := hi) hT (by rw [zI_ne na]; exact h3)) (ok_eq (pfI_e t1 t3) (ok_eq (gfI_v (r := kind) hT (by rw [zI_ne na, zI_ne na]; exact h1)) ?_)))
  have hs3 : scs L f u (zsI (zsI u (L.1 (160 + f)) 161 0) (L.1 (160 + f)) 162 hi) := scs_I (scs_I scs_rf t2) t2
  have i61 : zI (zsI (zsI u (L.1 (160 + f)) 161 0) (L.1 (160 + f)) 162 hi) (L.1 (160 + f)) 161 = 0 := by
    rw [zsI_I, if_neg (fun z => absurd z.2 (by decide)), zsI_I, if_pos ⟨rfl, rfl⟩]
  have i62 : zI (zsI (zsI u (L.1 (160 + f)) 161 0) (L.1 (160 + f)) 162 hi) (L.1 (160 + f)) 162 = hi := by rw [zsI_I, if_pos ⟨rfl, rfl⟩]
  have aI : zI (zsI (zsI u (L.1 (160 + f)) 161 0) (L.1 (160 + f)) 162 hi) a = zI u a := by rw [zI_ne na, zI_ne na]
  generalize zsI (zsI u (L.1 (160 + f)) 161 0) (L.1 (160 + f)) 162 hi = t at *
  have x1 : zT t (L.1 (160 + f)) = 5 := by rw [hs3.1.1]; exact t1
  have x2 : zR t (L.1 (160 + f)) 160 = some (L.1 (170 + f)) := by rw [hs3.1.2.2.1]; exact rr
  have x3 : zT t (L.1 (170 + f)) = 100 + 1 := by rw [hs3.1.1]; exact r1
  have x4 : zL t (L.1 (170 + f)) = 1220 := by rw [hs3.1.2.1]; exact r2
  have x5 : zT t a = 10 := by rw [hs3.1.1]; exact hT
  rw [w32_id (x := kind) (by omega) (by omega)]
  refine ok_ite (fun q1 => ?_) (fun q1 => ?_)
  · refine ok_eq (gfR_v x1 x2) (ok_eq (gfI_v x1 i61) (ok_eq (pfI_e x1 t3) (ok_eq (gfI_v (r := lo) x5 (by rw [zI_ne na, aI]; exact h2)) (ok_eq (asI_e 0 x3 r4 rfl (by show 0 < zL t _; omega) (by show zL t _ ≤ _; omega)) (ok_some ⟨scs_A (scs_I hs3 t2) r3, ?_⟩)))))
    refine ⟨1, fun _ => lo, ⟨?_, ?_, fun k hk => ?_⟩, ⟨fun i j h1 h2 => by omega, fun x => ?_⟩, Nat.le_refl _, rfl, fun k hk => hlo.2.1, fun x hx => hl x ((stb x).mpr hx)⟩
    · rw [zsA_I, zsI_I, if_pos ⟨rfl, rfl⟩]; rfl
    · rw [zsA_I, zsI_I, if_neg (fun z => absurd z.2 (by decide))]; exact i62
    · rw [zsA_A, if_pos ⟨rfl, by omega⟩]
    · rw [← stb x]
      unfold bsX
      rw [if_pos q1]
      exact ⟨fun z => ⟨0, by omega, z.symm⟩, fun ⟨k, _, z⟩ => z.symm⟩
  · obtain ⟨k0, k5⟩ := hki q1
    refine ok_eq (gfI_v (r := ((0 : Nat) : Int)) x5 (by rw [aI, h2, k0]; rfl)) ?_
    have key := loop_ind (fun q (w : Nat × Sg) => f4_begin_l49 G (some (L.1 (160 + f))) (some a) q (w.1 : Int) w.2) (fun w => 10 - w.1) (fun w => (w.1 : Int) ≤ hi + 1 ∧ scs L f u w.2 ∧ ST L w.2 f w.1 (fun k => (k : Int)) hi) (fun _ r => scs L f u r ∧ ST L r f (hi + 1).toNat (fun k => (k : Int)) hi) (by
      rintro q ⟨i, w⟩ ⟨hi', hw, ⟨y1, y2, y3⟩⟩ hrec
      dsimp only at hi' hw y1 y2 y3 ⊢
      show ok (f4_begin_l49 G (some (L.1 (160 + f))) (some a) (q + 1) (i : Int) w) _
      unfold f4_begin_l49
      have z1 : zT w (L.1 (160 + f)) = 5 := by rw [hw.1.1]; exact t1
      have z2 : zR w (L.1 (160 + f)) 160 = some (L.1 (170 + f)) := by rw [hw.1.2.2.1]; exact rr
      have z3 : zT w (L.1 (170 + f)) = 100 + 1 := by rw [hw.1.1]; exact r1
      have z4 : zL w (L.1 (170 + f)) = 1220 := by rw [hw.1.2.1]; exact r2
      refine ok_eq (gfI_v (r := hi) (by rw [hw.1.1]; exact hT) (by rw [hw.2.1 a (by omega)]; exact h3)) ?_
      rw [w32_id (x := hi) (by omega) (by omega), w32_n (by omega)]
      refine ok_ite (fun hc => ok_some ⟨hw, by rw [show (hi + 1).toNat = i by omega]; exact ⟨y1, y2, y3⟩⟩) (fun hc => ?_)
      refine ok_eq (gfR_v z1 z2) (ok_eq (gfI_v z1 y1) (ok_eq (pfI_e z1 t3) (ok_eq (asI_e i z3 r4 rfl (by show i < zL w _; omega) (by show zL w _ ≤ _; omega)) ?_)))
      refine hrec (i + 1, zsA (zsI w (L.1 (160 + f)) 161 ((i : Int) + 1)) (L.1 (170 + f)) i (i : Int)) ⟨by dsimp only; omega, scs_A (scs_I hw t2) r3, ?_, ?_, fun k hk => ?_⟩ (by show 10 - (i + 1) < 10 - i; omega)
      · rw [zsA_I, zsI_I, if_pos ⟨rfl, rfl⟩]; dsimp only; omega
      · rw [zsA_I, zsI_I, if_neg (fun z => absurd z.2 (by decide))]; exact y2
      · dsimp only at hk ⊢
        rw [zsA_A]
        by_cases hki : k = i
        · rw [if_pos ⟨rfl, hki⟩, hki]
        · rw [if_neg (fun z => hki z.2), zsI_A]; exact y3 k (by omega)) NN (0, t) ⟨by dsimp only; omega, hs3, i61, i62, fun k hk => by dsimp only at hk; omega⟩ (NN_gt (by show 10 - 0 < 100000; omega))
    obtain ⟨r, er, s', st'⟩ := key
    refine ok_eq er (ok_some ⟨s', (hi + 1).toNat, _, st', ⟨fun i j h1 h2 => by dsimp only; omega, fun x => ?_⟩, by omega, by rw [k0]; rfl, fun k hk => by show (k : Int) ≤ hi; omega, fun x hx => hl x ((stb x).mpr hx)⟩)
    rw [← stb x]
    unfold bsX
    rw [if_neg q1, k0]
    exact ⟨fun z => ⟨x.toNat, by omega, by dsimp only; omega⟩, fun ⟨k, k1, z⟩ => by dsimp only at z; omega⟩
