/-! JUDGE: pieces -/
theorem run_w8 {v a : Nat → Int} {nf nm : Int} (hf : nf ≤ 8) (hm : nm ≤ 12) : ∀ (ns : List Nd) (st : List Bool), (∀ q ∈ ns, okN nf nm q) → runN v a (ns.map w8n) st = runN v a ns st := by
  intro ns
  induction ns with
  | nil => intro st _; rfl
  | cons q ns ih =>
    intro st h
    have o := h q (List.mem_cons_self ..)
    obtain ⟨y1, y2, y3, y4⟩ := okN_w8 hf hm o
    have es : stepN v a (w8n q) st = stepN v a q st := by
      unfold stepN
      rw [y2]
      by_cases z0 : q.1 = 0
      · rw [y3 z0]
      · by_cases z1 : q.1 = 1
        · rw [if_neg z0, if_pos z1, if_neg z0, if_pos z1, y4 z1]
        · rw [if_neg z0, if_neg z1, if_neg z0, if_neg z1]
    show runN v a (ns.map w8n) (stepN v a (w8n q) st) = runN v a ns (stepN v a q st)
    rw [es, ih _ (fun q hq => h q (List.mem_cons_of_mem _ hq))]
theorem tru_w8 {v a : Nat → Int} {nf nm : Int} {ns : List Nd} (hf : nf ≤ 8) (hm : nm ≤ 12) (h : ∀ q ∈ ns, okN nf nm q) : tru v a (ns.map w8n) = tru v a ns := by unfold tru; rw [run_w8 hf hm ns [] h]
theorem isC_ne {ns : List Nd} (h : isC ns) : 1 ≤ ns.length := by
  cases ns with
  | nil => have := h 0; simp [hgt] at this
  | cons q ns => simp
theorem WA_Q {G : CG} {L : Ly} {u : Sg} {a : Nat} {W : Wv} (h : WA G L u a W) : WQ G L u a W := by
  obtain ⟨⟨h1, h2⟩, p1, p2, p3, p4, p5, p6, ⟨p7, p8, p9⟩, p10, -⟩ := h
  exact ⟨h1, ⟨h2, p1, p2, p3, p4, p5, p6, p9⟩, p10⟩
theorem zsI_same {u : Sg} {a k : Nat} {v : Int} (h : zI u a k = v) : zsI u a k v = u := by
  have e : up2 (zI u) a k v = zI u := by
    funext q g
    show (if q = a ∧ g = k then v else zI u q g) = _
    by_cases z : q = a ∧ g = k
    · rw [if_pos z, z.1, z.2, h]
    · rw [if_neg z]
  unfold zsI
  rw [e]
  rfl
/-- the twin keeps what shows the answer -/
theorem m_279 {m : Mu} {w F : Nat} {v2 v4 : Int} {v : Nat → Int} (hw : w ≤ 13) (hF : F ≤ 8) (h12 : m.2 12 w = (F : Int)) (hv : ∀ f, f < F → m.2 59 f = v f) : ∃ m', m5_judge_l279 w v2 v4 NN 0 m = some m' ∧ mfr [] [69] m m' ∧ ∀ f, f < F → m'.2 69 f = v f := by
  have key := loop_ind (fun q (s : Nat × Mu) => m5_judge_l279 w v2 v4 q (s.1 : Nat) s.2) (fun s => 10 - s.1) (fun s => s.1 ≤ F ∧ mfr [] [69] m s.2 ∧ ∀ f, f < s.1 → s.2.2 69 f = v f) (fun _ r => mfr [] [69] m r ∧ ∀ f, f < F → r.2 69 f = v f) (by
    rintro q ⟨i, t⟩ ⟨g1, g2, g3⟩ ih
    dsimp only at g1 g2 g3 ⊢
    show ok (m5_judge_l279 w v2 v4 (q + 1) (i : Nat) t) _
    unfold m5_judge_l279
    refine ok_mald w rfl (by omega) (by omega) ?_
    rw [g2.2 12 (by decide), h12, w32_n (by omega), w32_n (by omega)]
    refine ok_ite (fun hz => ok_some ⟨g2, fun f hf => g3 f (by omega)⟩) (fun hz => ?_)
    refine ok_mald i rfl (by omega) (by omega) (ok_mast i rfl (by omega) (by omega) ?_)
    rw [g2.2 59 (by decide), hv i (by omega)]
    refine ih (i + 1, _) ⟨by show i + 1 ≤ F; omega, mfr_ma g2 (by simp), fun f hf => ?_⟩ (by show 10 - (i + 1) < 10 - i; omega)
    have hf : f < i + 1 := hf
    show (ma t 69 i (v i)).2 69 f = v f
    rw [ma_s]
    by_cases z : f = i
    · rw [if_pos z, z]
    · rw [if_neg z]; exact g3 f (by omega)) NN (0, m) ⟨Nat.zero_le _, mfr_rf, fun f hf => absurd hf (Nat.not_lt_zero _)⟩ (NN_gt (by show 10 - 0 < 100000; omega))
  exact key
/-- the class keeps it -/
theorem c_127 {G : CG} {L : Ly} {t : Sg} {m : Mu} (h : RC G L t m) {F : Nat} {v : Nat → Int} {v2 : Int} (hF : F ≤ 8) (h21 : zI t (L.1 115) 121 = (F : Int)) (hv : ∀ f, f < F → zA t (L.1 140) f = v f) : ∃ t', f3_judge_l127 G (some (L.1 115)) v2 NN 0 (zsI t (L.1 115) 127 1) = some t' ∧ wr L t t' (fun r => r = 115 ∨ r = 147 ∨ r = 148 ∨ r = 149) ∧ (∀ g, zI t' (L.1 115) g = if g = 127 then 1 else zI t (L.1 115) g) ∧ (∀ a, L.2 a ≠ 149 → zA t' a = zA t a) ∧ ∀ f, f < F → zA t' (L.1 149) f = v f := by
  have hR := h.1
  have key := loop_ind (fun q (s : Nat × Sg) => f3_judge_l127 G (some (L.1 115)) v2 q (s.1 : Int) s.2) (fun s => 10 - s.1) (fun s => s.1 ≤ F ∧ wr L t s.2 (fun r => r = 115 ∨ r = 147 ∨ r = 148 ∨ r = 149) ∧ (∀ g, zI s.2 (L.1 115) g = if g = 127 then 1 else zI t (L.1 115) g) ∧ (∀ a, L.2 a ≠ 149 → zA s.2 a = zA t a) ∧ ∀ f, f < s.1 → zA s.2 (L.1 149) f = v f) (fun _ t' => wr L t t' (fun r => r = 115 ∨ r = 147 ∨ r = 148 ∨ r = 149) ∧ (∀ g, zI t' (L.1 115) g = if g = 127 then 1 else zI t (L.1 115) g) ∧ (∀ a, L.2 a ≠ 149 → zA t' a = zA t a) ∧ ∀ f, f < F → zA t' (L.1 149) f = v f) (by
    rintro q ⟨i, s⟩ ⟨g1, g2, g3, g4, g5⟩ ih
    dsimp only at g1 g2 g3 g4 g5 ⊢
    show ok (f3_judge_l127 G (some (L.1 115)) v2 (q + 1) (i : Int) s) _
    unfold f3_judge_l127
    have T115 : zT s (L.1 115) = 4 := by rw [g2.1]; exact rT115 hR
    refine ok_eq (gfI_v T115 (show zI s (L.1 115) 121 = (F : Int) by rw [g3, if_neg (by decide)]; exact h21)) ?_
    rw [w32_n (by omega), w32_n (by omega)]
    refine ok_ite (fun hz => ok_some ⟨g2, g3, g4, fun f hf => g5 f (by omega)⟩) (fun hz => ?_)
    refine ok_eq (gfI_v T115 (show zI s (L.1 115) 127 = 1 by rw [g3, if_pos rfl])) (ok_neg (by decide) ?_)
    have n140 : L.2 (L.1 140) ≠ 149 := by rw [rC140 hR]; decide
    refine ok_eq (gfR_v T115 (show zR s (L.1 115) 126 = some (L.1 149) by rw [g2.2.2.2.1]; exact rR115_126 hR)) (ok_eq (gfR_v T115 (show zR s (L.1 115) 129 = some (L.1 3) by rw [g2.2.2.2.1]; exact rR115_129 hR)) (ok_eq (gfR_v (show zT s (L.1 3) = 1 by rw [g2.1]; exact rT3 hR) (show zR s (L.1 3) 13 = some (L.1 113) by rw [g2.2.2.2.1]; exact rR3_13 hR)) (ok_eq (gfR_v (show zT s (L.1 113) = 2 by rw [g2.1]; exact rT113 hR) (show zR s (L.1 113) 40 = some (L.1 140) by rw [g2.2.2.2.1]; exact rR113_40 hR)) ?_)))
    refine ok_eq (alI_e i (show zT s (L.1 140) = 101 by rw [g2.1]; exact rT140 hR) rfl (by rw [g2.2.1, rL140 hR]; omega) (by rw [g2.2.1, rL140 hR]; omega)) (ok_eq (asI_e i (show zT s (L.1 149) = 101 by rw [g2.1]; exact rT149 hR) (rG149 hR) rfl (by rw [g2.2.1, rL149 hR]; omega) (by rw [g2.2.1, rL149 hR]; omega)) ?_)
    rw [g4 _ n140, hv i (by omega)]
    refine ih (i + 1, _) ⟨by show i + 1 ≤ F; omega, wr_A g2 (by rw [rC149 hR]; omega), g3, fun a ha => ?_, fun f hf => ?_⟩ (by show 10 - (i + 1) < 10 - i; omega)
    · funext j
      show zA (zsA s (L.1 149) i (v i)) a j = _
      rw [zsA_A, if_neg (fun z => ha (by rw [z.1]; exact rC149 hR)), g4 a ha]
    · have hf : f < i + 1 := hf
      show zA (zsA s (L.1 149) i (v i)) (L.1 149) f = v f
      rw [zsA_A]
      by_cases z : f = i
      · rw [if_pos ⟨rfl, z⟩, z]
      · rw [if_neg (fun y => z y.2)]; exact g5 f (by omega)) NN (0, zsI t (L.1 115) 127 1) ⟨Nat.zero_le _, wr_I wr_rf (by rw [rC115 hR]; omega), fun g => by
        dsimp only
        rw [zsI_I]
        by_cases z : g = 127
        · rw [if_pos ⟨rfl, z⟩, if_pos z]
        · rw [if_neg (fun y => z y.2), if_neg z], fun a _ => rfl, fun f hf => absurd hf (Nat.not_lt_zero _)⟩ (NN_gt (by show 10 - 0 < 100000; omega))
  exact key
/-- a law's truth, on the class's side -/
theorem c_truL {G : CG} {L : Ly} {u : Sg} {m : Mu} (h : RC G L u m) {W : Wv} (hM : WM W) {F : Nat → Prop} {v a : Nat → Int} {c : Nat} {ns : List Nd} (hc : CA F G u 100 c ns) (ho : ∀ q ∈ ns, okN (nF W) (nM W) q) (hv : ∀ f, f < nF W → zA u (L.1 140) f = v f ∧ w32 (v f) = v f) (ha : ∀ k, k < nM W → zA u (L.1 141) k = a k ∧ (a k = 0 ∨ a k = 1)) : kv_isTrue G DD (some c) (some (L.1 113)) u = some (b2i (tru v a ns)) := by
  have hR := h.1
  have hM1 := hM.1
  have e12 : W 12 0 = (nF W : Int) := (nF_e hM).1
  have e19 : W 19 0 = (nM W : Int) := by unfold nM; omega
  rw [isTrue_eq hR.2.2.2.2.2.1 (rT113 hR) (rR113_40 hR) (rR113_41 hR) (rT140 hR) (rL140 hR) (rT141 hR) (rL141 hR) (nf := (nF W : Int)) (nm := (nM W : Int)) (by omega) (by omega) (fun k hk => by obtain ⟨z1, z2⟩ := hv k (by omega); rw [z1]; exact z2) (fun k hk => by obtain ⟨z1, z2⟩ := ha k (by omega); rw [z1]; exact z2) 100 c _ hc ho DD (by decide)]
  rw [tru_cg (v := zA u (L.1 140)) (v' := v) (a := zA u (L.1 141)) (a' := a) (fun q hq h0 => by
    have := (ho q hq).2.2.1 h0
    rw [(hv q.2.1.toNat (by omega)).1]) (fun q hq h1 => by
    have := (ho q hq).2.2.2 h1
    exact (ha q.2.1.toNat (by omega)).1)]
