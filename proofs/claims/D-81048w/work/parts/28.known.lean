/-! LATE TELLINGS: fact, tell, loss -/
/-- the value as known on a day -/
def onS (vs ds : Nat → Int) (day non : Int) : Nat → Int × Int
  | 0 => (-1, non)
  | k + 1 => if ds k ≤ day ∧ (onS vs ds day non k).1 ≤ ds k then (ds k, vs k) else onS vs ds day non k
def onV (n : Int) (vs ds : Nat → Int) (day non : Int) : Int := (onS vs ds day non n.toNat).2
theorem onS_in (vs ds : Nat → Int) (day non : Int) : ∀ n, (∀ k, k < n → 0 ≤ ds k) → ((onS vs ds day non n = (-1, non)) ∨ ∃ f, f < n ∧ onS vs ds day non n = (ds f, vs f)) := by
  intro n
  induction n with
  | zero => intro _; exact Or.inl rfl
  | succ n ih =>
    intro h
    simp only [onS]
    split
    · exact Or.inr ⟨n, by omega, rfl⟩
    · rcases ih (fun k hk => h k (by omega)) with e | ⟨f, hf, e⟩
      · exact Or.inl e
      · exact Or.inr ⟨f, by omega, e⟩
theorem c_on {G : CG} {L : Ly} {u : Sg} {r : Nat} {n : Int} {vs ds : Nat → Int} (h : KA G L u r n vs ds) (hd : ∀ k : Nat, (k : Int) < n → 0 ≤ ds k ∧ ds k ≤ 9999) {day non : Int} (hday : w32 day = day) : f19_on G (some (L.1 r)) day non u = some (onV n vs ds day non) := by
  obtain ⟨b1, b2, b3, b4, b5, b6, b7, b8⟩ := h
  obtain ⟨N, rfl⟩ : ∃ N : Nat, n = N := ⟨n.toNat, by omega⟩
  obtain ⟨c1, c2, c3, c4, c5⟩ := b7 0 (by omega)
  obtain ⟨d1, d2, d3, d4, d5⟩ := b7 1 (by omega)
  simp only [Nat.add_zero] at c1 c2 c3 c4 c5
  have rV : ∀ i, i < N → alI u 1 (some (L.1 (r + 1))) (i : Int) = some (vs i) := fun i hi => by rw [alI_e i c2 rfl (by omega) (by omega), (b8 i (by omega)).1]
  have rD : ∀ i, i < N → alI u 1 (some (L.1 (r + 1 + 1))) (i : Int) = some (ds i) := fun i hi => by rw [alI_e i d2 rfl (by omega) (by omega)]; congr 1; exact (b8 i (by omega)).2
  have w9 : ∀ i, i < N → w32 (ds i) = ds i := fun i hi => w32_id (by have := hd i (by omega); omega) (by have := hd i (by omega); omega)
  have key := loop_ind (fun q (s : Int × Nat) => f19_on_l5 G (some (L.1 r)) day non u q s.1 s.2) (fun s => N - s.2) (fun s => s.2 ≤ N ∧ ((s.1 = -1 ∧ onS vs ds day non s.2 = (-1, non)) ∨ ∃ f : Nat, f < N ∧ s.1 = f ∧ onS vs ds day non s.2 = (ds f, vs f))) (fun _ a => (a = -1 ∧ onS vs ds day non N = (-1, non)) ∨ ∃ f : Nat, f < N ∧ a = f ∧ onS vs ds day non N = (ds f, vs f)) (by
    rintro q ⟨fd, i⟩ ⟨hi, hI⟩ ih
    simp only at hi hI
    show ok (f19_on_l5 G (some (L.1 r)) day non u (q + 1) fd i) _
    unfold f19_on_l5
    refine ok_eq (gfI_v b1 b4) ?_
    rw [w32_n (by omega), w32_n (by omega)]
    refine ok_ite (fun hc => ok_some ?_) (fun hc => ?_)
    · have : i = N := by omega
      subst this
      exact hI
    have hiN : i < N := by omega
    have skip : onS vs ds day non (i + 1) = onS vs ds day non i → ok (f19_on_l5 G (some (L.1 r)) day non u q fd ((i : Int) + 1)) (fun a => (a = -1 ∧ onS vs ds day non N = (-1, non)) ∨ ∃ f : Nat, f < N ∧ a = f ∧ onS vs ds day non N = (ds f, vs f)) := fun e => ih (fd, i + 1) ⟨by show i + 1 ≤ N; omega, by show _ ∨ _; rw [e]; exact hI⟩ (by show N - (i + 1) < N - i; omega)
    have take : onS vs ds day non (i + 1) = (ds i, vs i) → ok (f19_on_b45 G (f19_on_l5 G (some (L.1 r)) day non u q) (some (L.1 r)) day non (i : Int) u) (fun a => (a = -1 ∧ onS vs ds day non N = (-1, non)) ∨ ∃ f : Nat, f < N ∧ a = f ∧ onS vs ds day non N = (ds f, vs f)) := fun e => ih ((i : Int), i + 1) ⟨by show i + 1 ≤ N; omega, Or.inr ⟨i, hiN, rfl, e⟩⟩ (by show N - (i + 1) < N - i; omega)
    refine ok_eq (gfR_v b1 d1) (ok_eq (rD i hiN) ?_)
    rw [hday, w9 i hiN]
    refine ok_ite (fun h1 => skip ?_) (fun h1 => ?_)
    · simp only [onS]; rw [if_neg (by omega)]
    rcases hI with ⟨e1, e2⟩ | ⟨f, e1, e2, e3⟩
    · subst e1
      refine ok_pos (by decide) (take ?_)
      simp only [onS]; rw [e2, if_pos]
      have := hd i (by omega)
      exact ⟨by omega, by show (-1 : Int) ≤ _; omega⟩
    · subst e2
      refine ok_neg (by rw [w32_n (by omega)]; omega) ?_
      refine ok_eq (gfR_v b1 d1) (ok_eq (rD i hiN) (ok_eq (gfR_v b1 d1) (ok_eq (rD f e1) ?_)))
      rw [w9 i hiN, w9 f e1]
      refine ok_ite (fun h2 => skip ?_) (fun h2 => take ?_)
      · simp only [onS]; rw [e3, if_neg (by show ¬ (_ ∧ ds f ≤ ds i); omega)]
      · simp only [onS]; rw [e3, if_pos ⟨by omega, by show ds f ≤ ds i; omega⟩]) NN (-1, 0) ⟨Nat.zero_le _, Or.inl ⟨rfl, rfl⟩⟩ (NN_gt (by show N - 0 < 100000; omega))
  obtain ⟨a, e, hq⟩ := key
  unfold f19_on
  have e' : f19_on_l5 G (some (L.1 r)) day non u NN (-1) 0 = some a := e
  rw [e', Option.bind_some]
  have hN : ((N : Int)).toNat = N := by omega
  unfold onV
  rw [hN]
  rcases hq with ⟨rfl, e2⟩ | ⟨f, e1, rfl, e2⟩
  · rw [if_neg (by decide), e2]
  · rw [if_pos (by rw [w32_n (by omega)]; omega), gfR_v b1 c1, Option.bind_some, rV f e1, Option.bind_some, e2]
theorem m_factAt {m : Mu} {e f : Nat} (he : e ≤ 32) (hf : f < 8) (hn : 0 ≤ m.2 75 (8 * e + f) ∧ m.2 75 (8 * e + f) ≤ 6) (hd : ∀ k : Nat, (k : Int) < m.2 75 (8 * e + f) → 0 ≤ m.2 74 (6 * (8 * e + f) + k) ∧ m.2 74 (6 * (8 * e + f) + k) ≤ 9999) {day : Int} (hday : w32 day = day) : m5_factAt e f day m = some (onV (m.2 75 (8 * e + f)) (fun k => m.2 73 (6 * (8 * e + f) + k)) (fun k => m.2 74 (6 * (8 * e + f) + k)) day (-1)) := by
  generalize hr : 8 * e + f = r at *
  have hr2 : r < 264 := by omega
  obtain ⟨N, hN⟩ : ∃ N : Nat, m.2 75 r = N := ⟨(m.2 75 r).toNat, by omega⟩
  rw [hN] at hn hd ⊢
  have ei : (8 * (e : Int) + (f : Int)) = (r : Int) := by omega
  unfold m5_factAt
  rw [ei]
  generalize hv : (fun k => m.2 73 (6 * r + k)) = vs
  generalize hdd : (fun k => m.2 74 (6 * r + k)) = ds
  have rV : ∀ i, i < N → mald m 73 1584 (6 * (r : Int) + (i : Int)) = some (vs i) := fun i hi => by rw [mald_e (6 * r + i) (by omega) (by omega) (by omega), ← hv]
  have rD : ∀ i, i < N → mald m 74 1584 (6 * (r : Int) + (i : Int)) = some (ds i) := fun i hi => by rw [mald_e (6 * r + i) (by omega) (by omega) (by omega), ← hdd]
  have hd2 : ∀ i, i < N → 0 ≤ ds i ∧ ds i ≤ 9999 := fun i hi => by rw [← hdd]; exact hd i (by omega)
  have key := loop_ind (fun q (s : Int × Int × Nat) => m5_factAt_l17 day r m q s.1 s.2.1 s.2.2) (fun s => N - s.2.2) (fun s => s.2.2 ≤ N ∧ onS vs ds day (-1) s.2.2 = (s.1, s.2.1)) (fun _ a => (onS vs ds day (-1) N).2 = a) (by
    rintro q ⟨b, v, i⟩ ⟨hi, hI⟩ ih
    simp only at hi hI
    show ok (m5_factAt_l17 day r m (q + 1) b v i) _
    unfold m5_factAt_l17
    refine ok_mald r rfl (by omega) (by omega) ?_
    rw [hN, w32_n (by omega), w32_n (by omega)]
    refine ok_ite (fun hc => ok_some ?_) (fun hc => ?_)
    · have : i = N := by omega
      subst this
      rw [hI]
    have hiN : i < N := by omega
    have d9 := hd2 i hiN
    have wi : w32 (ds i) = ds i := w32_id (by omega) (by omega)
    have hb : -1 ≤ b ∧ b ≤ 9999 := by
      rcases onS_in vs ds day (-1) i (fun k hk => (hd2 k (by omega)).1) with z | ⟨g, hg, z⟩
      · rw [hI] at z; cases z; omega
      · rw [hI] at z
        have := hd2 g (by omega)
        have z1 : b = ds g := congrArg Prod.fst z
        omega
    refine ok_eq (rD i hiN) ?_
    rw [hday, wi]
    refine ok_ite (fun h1 => ?_) (fun h1 => ?_)
    · refine ih (b, v, i + 1) ⟨by show i + 1 ≤ N; omega, ?_⟩ (by show N - (i + 1) < N - i; omega)
      simp only [onS]; rw [if_neg (by omega)]; exact hI
    refine ok_eq (rD i hiN) ?_
    rw [wi, w32_id (x := b) (by omega) (by omega)]
    refine ok_ite (fun h2 => ?_) (fun h2 => ?_)
    · refine ih (b, v, i + 1) ⟨by show i + 1 ≤ N; omega, ?_⟩ (by show N - (i + 1) < N - i; omega)
      simp only [onS]; rw [hI, if_neg (by show ¬ (_ ∧ b ≤ ds i); omega)]
    · refine ok_eq (rD i hiN) (ok_eq (rV i hiN) ?_)
      refine ih (ds i, vs i, i + 1) ⟨by show i + 1 ≤ N; omega, ?_⟩ (by show N - (i + 1) < N - i; omega)
      simp only [onS]; rw [hI, if_pos ⟨by omega, by show b ≤ ds i; omega⟩]) NN (-1, -1, 0) ⟨Nat.zero_le _, rfl⟩ (NN_gt (by show N - 0 < 100000; omega))
  obtain ⟨a, ea, hq⟩ := key
  have e' : m5_factAt_l17 day r m NN (-1) (-1) 0 = some a := ea
  rw [e', Option.bind_some]
  unfold onV
  rw [show ((N : Int)).toNat = N by omega, hq]
theorem m_lossAt {m : Mu} {c : Nat} (hc : c ≤ 40) (hn : 0 ≤ m.2 92 c ∧ m.2 92 c ≤ 6) (hd : ∀ k : Nat, (k : Int) < m.2 92 c → 0 ≤ m.2 94 (6 * c + k) ∧ m.2 94 (6 * c + k) ≤ 9999) {day : Int} (hday : w32 day = day) : m5_lossAt c day m = some (onV (m.2 92 c) (fun k => m.2 93 (6 * c + k)) (fun k => m.2 94 (6 * c + k)) day 0) := by
  obtain ⟨N, hN⟩ : ∃ N : Nat, m.2 92 c = N := ⟨(m.2 92 c).toNat, by omega⟩
  rw [hN] at hn hd ⊢
  unfold m5_lossAt
  generalize hv : (fun k => m.2 93 (6 * c + k)) = vs
  generalize hdd : (fun k => m.2 94 (6 * c + k)) = ds
  have rV : ∀ i, i < N → mald m 93 246 (6 * (c : Int) + (i : Int)) = some (vs i) := fun i hi => by rw [mald_e (6 * c + i) (by omega) (by omega) (by omega), ← hv]
  have rD : ∀ i, i < N → mald m 94 246 (6 * (c : Int) + (i : Int)) = some (ds i) := fun i hi => by rw [mald_e (6 * c + i) (by omega) (by omega) (by omega), ← hdd]
  have hd2 : ∀ i, i < N → 0 ≤ ds i ∧ ds i ≤ 9999 := fun i hi => by rw [← hdd]; exact hd i (by omega)
  have key := loop_ind (fun q (s : Int × Int × Nat) => m5_lossAt_l8 c day m q s.1 s.2.1 s.2.2) (fun s => N - s.2.2) (fun s => s.2.2 ≤ N ∧ onS vs ds day 0 s.2.2 = (s.1, s.2.1)) (fun _ a => (onS vs ds day 0 N).2 = a) (by
    rintro q ⟨b, v, i⟩ ⟨hi, hI⟩ ih
    simp only at hi hI
    show ok (m5_lossAt_l8 c day m (q + 1) b v i) _
    unfold m5_lossAt_l8
    refine ok_mald c rfl (by omega) (by omega) ?_
    rw [hN, w32_n (by omega), w32_n (by omega)]
    refine ok_ite (fun hc => ok_some ?_) (fun hc => ?_)
    · have : i = N := by omega
      subst this
      rw [hI]
    have hiN : i < N := by omega
    have d9 := hd2 i hiN
    have wi : w32 (ds i) = ds i := w32_id (by omega) (by omega)
    have hb : -1 ≤ b ∧ b ≤ 9999 := by
      rcases onS_in vs ds day 0 i (fun k hk => (hd2 k (by omega)).1) with z | ⟨g, hg, z⟩
      · rw [hI] at z; cases z; omega
      · rw [hI] at z
        have := hd2 g (by omega)
        have z1 : b = ds g := congrArg Prod.fst z
        omega
    refine ok_eq (rD i hiN) ?_
    rw [hday, wi]
    refine ok_ite (fun h1 => ?_) (fun h1 => ?_)
    · refine ih (b, v, i + 1) ⟨by show i + 1 ≤ N; omega, ?_⟩ (by show N - (i + 1) < N - i; omega)
      simp only [onS]; rw [if_neg (by omega)]; exact hI
    refine ok_eq (rD i hiN) ?_
    rw [wi, w32_id (x := b) (by omega) (by omega)]
    refine ok_ite (fun h2 => ?_) (fun h2 => ?_)
    · refine ih (b, v, i + 1) ⟨by show i + 1 ≤ N; omega, ?_⟩ (by show N - (i + 1) < N - i; omega)
      simp only [onS]; rw [hI, if_neg (by show ¬ (_ ∧ b ≤ ds i); omega)]
    · refine ok_eq (rD i hiN) (ok_eq (rV i hiN) ?_)
      refine ih (ds i, vs i, i + 1) ⟨by show i + 1 ≤ N; omega, ?_⟩ (by show N - (i + 1) < N - i; omega)
      simp only [onS]; rw [hI, if_pos ⟨by omega, by show b ≤ ds i; omega⟩]) NN (-1, 0, 0) ⟨Nat.zero_le _, rfl⟩ (NN_gt (by show N - 0 < 100000; omega))
  obtain ⟨a, ea, hq⟩ := key
  have e' : m5_lossAt_l8 c day m NN (-1) 0 0 = some a := ea
  rw [e', Option.bind_some]
  unfold onV
  rw [show ((N : Int)).toNat = N by omega, hq]
/-- one telling more -/
theorem KA_add {G : CG} {L : Ly} {u : Sg} {r : Nat} {n : Nat} {vs ds : Nat → Int} (h : KA G L u r (n : Int) vs ds) (hn : n < 6) (v d : Int) : ∃ u', f19_add G (some (L.1 r)) v d u = some u' ∧ wr L u u' (fun x => r ≤ x ∧ x < r + 3) ∧ KA G L u' r ((n : Int) + 1) (va_up vs n v) (va_up ds n d) := by
  obtain ⟨b1, b2, b3, b4, b5, b6, b7, b8⟩ := h
  obtain ⟨c1, c2, c3, c4, c5⟩ := b7 0 (by omega)
  obtain ⟨d1, d2, d3, d4, d5⟩ := b7 1 (by omega)
  simp only [Nat.add_zero] at c1 c2 c3 c4 c5
  have n12 := rne c5 d5 (by omega)
  refine ⟨zsA (zsI (zsA u (L.1 (r + 1)) n v) (L.1 r) 762 ((n : Int) + 1)) (L.1 (r + 1 + 1)) n d, ?_, ?_, ?_⟩
  · refine ok_is ?_
    unfold f19_add
    refine ok_eq (gfR_v b1 c1) (ok_eq (gfI_v b1 b4) (ok_eq (asI_e n c2 c4 rfl (by omega) (by omega)) ?_))
    refine ok_eq (gfR_v b1 d1) (ok_eq (gfI_v b1 b4) (ok_eq (pfI_e b1 b2) (ok_eq (asI_e n d2 d4 rfl (by show n < zL u _; omega) (by show zL u _ ≤ _; omega)) (ok_some rfl))))
  · exact wr_A (wr_I (wr_A wr_rf (by rw [c5]; omega)) (by rw [b3]; omega)) (by rw [d5]; omega)
  · refine ⟨b1, b2, b3, by rw [zsA_I, zsI_I, if_pos ⟨rfl, rfl⟩], by omega, by omega, fun j hj => ?_, fun k hk => ?_⟩
    · exact b7 j hj
    · show zA (zsA (zsI (zsA u (L.1 (r + 1)) n v) (L.1 r) 762 ((n : Int) + 1)) (L.1 (r + 1 + 1)) n d) (L.1 (r + 1)) k = _ ∧ zA (zsA (zsI (zsA u (L.1 (r + 1)) n v) (L.1 r) 762 ((n : Int) + 1)) (L.1 (r + 1 + 1)) n d) (L.1 (r + 1 + 1)) k = _
      rw [zA_ne n12, zsI_A, zsA_A, zsA_A, zsI_A, zA_ne n12.symm, va_up_e, va_up_e]
      by_cases hkn : k = n
      · simp [hkn]
      · simp only [hkn, and_false, if_false]
        exact b8 k (by omega)
theorem KA_cg {G : CG} {L : Ly} {u : Sg} {r : Nat} {n n' : Int} {vs ds vs' ds' : Nat → Int} (h : KA G L u r n vs ds) (hn : n' = n) (hv : ∀ k : Nat, (k : Int) < n → vs' k = vs k ∧ ds' k = ds k) : KA G L u r n' vs' ds' := by
  subst hn
  obtain ⟨b1, b2, b3, b4, b5, b6, b7, b8⟩ := h
  exact ⟨b1, b2, b3, b4, b5, b6, b7, fun k hk => by rw [(hv k hk).1, (hv k hk).2]; exact b8 k hk⟩
theorem lf_get {G : CG} {L : Ly} {u : Sg} {a n : Nat} {el : Nat → Nat} (h : LF L u a n el) {i : Int} (k : Nat) (hi : i = k) (hk : k < n) : fJ2_get G (some a) i u = some (some (el k)) := by
  obtain ⟨b, h1, h2, h3, h4⟩ := h
  rw [J_get h1 k hi hk, h4 k hk]
theorem lf_size {G : CG} {L : Ly} {u : Sg} {a n : Nat} {el : Nat → Nat} (h : LF L u a n el) : fJ2_size G (some a) u = some (n : Int) := by
  obtain ⟨b, h1, h2, h3, h4⟩ := h
  exact J_size h1
theorem lf_tag {L : Ly} {u : Sg} {a n : Nat} {el : Nat → Nat} (h : LF L u a n el) : zT u a = 6 := by
  obtain ⟨b, h1, h2, h3, h4⟩ := h
  exact h1.1
theorem ev_get {G : CG} {L : Ly} {u : Sg} {m : Mu} (h : RC G L u m) {e : Nat} (h1 : 1 ≤ e) (h2 : (e : Int) ≤ m.1 71) : fJ2_get G (some (L.1 106)) ((e : Int) - 1) u = some (some (L.1 (400 + e))) := by
  have hW := h.2.2.2.2.2.1
  rw [ml_get hW.2.2.1 (e - 1) (by omega) (by omega)]
  show some (some (L.1 (401 + (e - 1)))) = _
  rw [show 401 + (e - 1) = 400 + e by omega]
theorem cl_get {G : CG} {L : Ly} {u : Sg} {m : Mu} (h : RC G L u m) {c : Nat} (h1 : 1 ≤ c) (h2 : (c : Int) ≤ m.1 87) : fJ2_get G (some (L.1 108)) ((c : Int) - 1) u = some (some (L.1 (4000 + 8 * c))) := by
  have hW := h.2.2.2.2.2.2.2
  rw [ml_get hW.2.2.1 (c - 1) (by omega) (by omega)]
  show some (some (L.1 (4008 + 8 * (c - 1)))) = _
  rw [show 4008 + 8 * (c - 1) = 4000 + 8 * c by omega]
theorem wo_get {G : CG} {L : Ly} {u : Sg} {m : Mu} (h : RC G L u m) {w : Nat} (h1 : 1 ≤ w) (h2 : (w : Int) ≤ m.1 11) : fJ2_get G (some (L.1 105)) ((w : Int) - 1) u = some (some (L.1 (300 + w))) := by
  have hW := h.2.2.2.2.1
  rw [ml_get hW.2.2.1 (w - 1) (by omega) (by omega)]
  show some (some (L.1 (301 + (w - 1)))) = _
  rw [show 301 + (w - 1) = 300 + w by omega]
/-- an event and its wording -/
theorem ev_at {G : CG} {L : Ly} {u : Sg} {m : Mu} (h : RC G L u m) {e : Nat} (h1 : 1 ≤ e) (h2 : (e : Int) ≤ m.1 71) : ∃ w : Nat, 1 ≤ w ∧ (w : Int) ≤ m.1 11 ∧ w ≤ 12 ∧ m.2 72 e = w ∧ EE G L u m e ∧ WM (slc m w) ∧ WA G L u (L.1 (300 + w)) (slc m w) ∧ m.2 12 w = (nF (slc m w) : Int) ∧ nF (slc m w) ≤ 8 := by
  have hE := h.2.2.2.2.2.1.2.2.2 e h1 h2
  have q1 := hE.1
  have q2 := hE.2.1
  have hW := h.2.2.2.2.1
  have q3 := hW.2.1
  refine ⟨(m.2 72 e).toNat, by omega, by omega, by omega, by omega, hE, (hW.2.2.2 _ (by omega) (by omega)).1, (hW.2.2.2 _ (by omega) (by omega)).2, ?_, ev_nF h e h1 h2⟩
  have hM := (hW.2.2.2 (m.2 72 e).toNat (by omega) (by omega)).1
  have := hM.1.1
  rw [slc_e (k := 12) (w := (m.2 72 e).toNat) (j := 0) _ (by decide) (by show 1 * _ + 0 = _; omega)]
  unfold nF
  omega
theorem c_isFact {G : CG} {L : Ly} {u : Sg} {m : Mu} (h : RC G L u m) {e f : Int} (he : w32 e = e) (hf : w32 f = f) : f0_isFact G (some (L.1 3)) e f u = some (b2i (decide (1 ≤ e ∧ e ≤ m.1 71 ∧ 0 ≤ f ∧ f < m.2 12 (m.2 72 e.toNat).toNat))) := by
  unfold f0_isFact
  rw [ztg_e (rT3 h.1), Option.bind_some, c_isE h he, Option.bind_some, w32_b2i, hf]
  by_cases h1 : 1 ≤ e ∧ e ≤ m.1 71
  · rw [decide_eq_true h1, if_neg (by decide)]
    obtain ⟨n, rfl⟩ : ∃ n : Nat, e = n := ⟨e.toNat, by omega⟩
    by_cases h2 : f < 0
    · rw [if_pos h2, decide_eq_false (by omega)]; rfl
    · rw [if_neg h2]
      have hE := h.2.2.2.2.2.1
      obtain ⟨w, w1, w2, w12, w3, hEE, hM, hWA, w4, w5⟩ := ev_at h (e := n) (by omega) (by omega)
      have hEE' := hEE
      obtain ⟨b1, b2, b3, b4, b5, l, b6, b7, b8⟩ := hEE
      rw [gfR_v (rT3 h.1) (rR3_6 h.1), Option.bind_some, ztg_e hE.2.2.1.1.1, Option.bind_some, ev_get h (by omega) (by omega), Option.bind_some, zcast_1 b4, Option.bind_some, gfR_v b4 b6, Option.bind_some, ztg_e (lf_tag b7), Option.bind_some, lf_size b7, Option.bind_some, w32_n (by rw [w3]; show nF (slc m w) < _; omega), w3]
      show (if ((nF (slc m w) : Nat) : Int) ≤ f then some 0 else some 1) = some (b2i (decide (1 ≤ (n : Int) ∧ (n : Int) ≤ m.1 71 ∧ 0 ≤ f ∧ f < m.2 12 (m.2 72 n).toNat)))
      rw [w3, show ((w : Int)).toNat = w by omega, w4]
      by_cases h3 : ((nF (slc m w) : Nat) : Int) ≤ f
      · rw [if_pos h3, decide_eq_false (by omega)]; rfl
      · rw [if_neg h3, decide_eq_true (by omega)]; rfl
  · rw [decide_eq_false h1, if_pos (by decide), decide_eq_false (by omega)]; rfl
theorem o_fact {G : CG} {L : Ly} {u : Sg} {m : Mu} (h : RC G L u m) (e f k : Int) (he : w32 e = e) (hf : w32 f = f) (hk : w32 k = k) : sim (f0_fact G (some (L.1 3)) e f k u) (m5_fact e f k m) same1 := by
  unfold f0_fact m5_fact
  refine sim_L (ztg_e (rT3 h.1)) (sim_L (c_isFact h he hf) (sim_R (m_isE h he) ?_))
  rw [w32_b2i, w32_b2i, hf]
  by_cases h1 : 1 ≤ e ∧ e ≤ m.1 71
  · rw [decide_eq_true h1]
    refine sim_negR (by decide) ?_
    obtain ⟨n, rfl⟩ : ∃ n : Nat, e = n := ⟨e.toNat, by omega⟩
    have hn32 := h.2.2.2.2.2.1.2.1
    by_cases h2 : f < 0
    · rw [decide_eq_false (by omega)]
      exact sim_posL (by decide) (sim_posR h2 (sim_some rfl))
    refine sim_negR h2 ?_
    obtain ⟨w, w1, w2, w12, w3, hEE, hM, hWA, w4, w5⟩ := ev_at h (e := n) (by omega) (by omega)
    refine sim_mald n rfl (by omega) (by omega) ?_
    rw [w3]
    refine sim_mald w rfl (by omega) (by omega) ?_
    show sim (if b2i (decide (1 ≤ (n : Int) ∧ (n : Int) ≤ m.1 71 ∧ 0 ≤ f ∧ f < m.2 12 (m.2 72 n).toNat)) = 0 then _ else _) _ _
    rw [w3, show ((w : Int)).toNat = w by omega, w4, w32_n (by omega)]
    by_cases h3 : f < (nF (slc m w) : Int)
    · rw [decide_eq_true (by omega)]
      refine sim_negL (by decide) (sim_posR h3 ?_)
      refine sim_L (c_isDay hk) (sim_R (m_isDay hk) (sim_test (fun _ => sim_some rfl) (fun h4 => ?_)))
      obtain ⟨b1, b2, b3, b4, b5, l, b6, b7, b8⟩ := hEE
      rw [w3, show ((w : Int)).toNat = w by omega] at b7 b8
      obtain ⟨g, rfl⟩ : ∃ g : Nat, f = g := ⟨f.toNat, by omega⟩
      obtain ⟨k1, k2⟩ := b8 g (by omega)
      have hE := h.2.2.2.2.2.1
      refine sim_L (gfR_v (rT3 h.1) (rR3_6 h.1)) (sim_L (ztg_e hE.2.2.1.1.1) (sim_L (ev_get h (by omega) (by omega)) (sim_L (zcast_1 b4) (sim_L (gfR_v b4 b6) (sim_L (ztg_e (lf_tag b7)) (sim_L (lf_get b7 g rfl (by omega)) (sim_L (zcast_1 k1.1) (sim_L (ztg_e k1.1) ?_))))))))
      refine sim_L (c_on k1 (fun q hq => (k2 q hq).2) hk) (sim_R (m_factAt (by omega) (by omega) ⟨k1.2.2.2.2.1, k1.2.2.2.2.2.1⟩ (fun q hq => (k2 q hq).2) hk) (sim_some rfl))
    · rw [decide_eq_false (by omega)]
      exact sim_posL (by decide) (sim_negR h3 (sim_some rfl))
  · rw [decide_eq_false h1, decide_eq_false (by omega)]
    exact sim_posL (by decide) (sim_posR (by decide) (sim_some rfl))
