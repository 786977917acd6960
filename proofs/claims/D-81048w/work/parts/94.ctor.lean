/-! THE TWIN'S CONSTRUCTOR: its world, its rows -/
/-- which array (in the order of the fields) the field k is -/
def rkL : List Nat := [0, 1, 0, 0, 0, 0, 0, 0, 0, 0, 0, 0, 2, 3, 4, 5, 6, 7, 8, 9, 10, 11, 12, 13, 14, 15, 16, 17, 18, 19, 20, 21, 22, 23, 24, 25, 26, 27, 28, 29, 30, 31, 32, 33, 34, 35, 0, 0, 36, 0, 0, 0, 0, 37, 38, 39, 0, 40, 41, 42, 43, 44, 0, 45, 46, 0, 47, 48, 0, 49, 0, 0, 50, 51, 52, 53, 54, 55, 56, 57, 58, 0, 59, 60, 61, 62, 63, 0, 64, 65, 66, 67, 68, 69, 70, 71, 72, 0, 73, 74, 75, 0, 0, 76, 77, 78, 79, 80, 81, 82, 83, 0, 84, 85, 86, 0]
def rk (k : Nat) : Nat := rkL.getD k 0
def arL : List Nat := [0, 1, 12, 13, 14, 15, 16, 17, 18, 19, 20, 21, 22, 23, 24, 25, 26, 27, 28, 29, 30, 31, 32, 33, 34, 35, 36, 37, 38, 39, 40, 41, 42, 43, 44, 45, 48, 53, 54, 55, 57, 58, 59, 60, 61, 63, 64, 66, 67, 69, 72, 73, 74, 75, 76, 77, 78, 79, 80, 82, 83, 84, 85, 86, 88, 89, 90, 91, 92, 93, 94, 95, 96, 98, 99, 100, 103, 104, 105, 106, 107, 108, 109, 110, 112, 113, 114]
set_option maxRecDepth 100000 in
theorem rk_inv : ∀ k, k < 116 → mkd (tyX5 k) ≠ 0 → arL.getD (rk k) 0 = k := by decide +kernel
theorem rk_inj {j k : Nat} (hj : mIs j) (hk : mIs k) (h : rk j = rk k) : j = k := by
  rw [← rk_inv j hj.1 hj.2, ← rk_inv k hk.1 hk.2, h]
def GI (G' : MG) : Prop := ∀ k, mIs k → G'.2.1 k = G'.1 + 1 + rk k
def iV (G' : MG) (w : Mu × Nat × Nat) (k : Nat) : Value := if mkd (tyX5 k) ≠ 0 ∧ w.2.2 ≤ rk k then .null else mV G' w.1 k
/-- the object under construction: w.2.1 arrays are made, w.2.2 are put into their fields -/
def bI (G' : MG) (w : Mu × Nat × Nat) (U : State) (H : Heap) : Prop := mKn G' U ∧ t_OB G'.1 G'.2.2.1 116 G'.2.2.2.1 H (iV G' w) ∧ (∀ k, mIs k → rk k < w.2.1 → H[G'.1 + 1 + rk k]? = some (mC G' w.1 k)) ∧ H.size = G'.1 + 1 + w.2.1
theorem bI_mv (G' : MG) : jMv (bI G') := fun w u U H hvm h => ⟨⟨u_Kn_moved hvm h.1.1, fun t h1 h2 => arrOfT_moved hvm (h.1.2 t h1 h2)⟩, h.2⟩
def kS (G' : MG) (aK aV : Nat) (f : Option Nat) (s : State) : Prop := bS (aM G') aK aV f () s s.heap ∧ vk_R RX5 283 sTx aK s ∧ ∀ t, 1 ≤ t → t ≤ 4 → va_RA s (G'.2.2.2.2 t) (mty t)
abbrev D5_init : MD := (RX5, cX5_init, 5, none, "<init>", 4, 85)
section
variable {G' : MG} {aK aV : Nat} {f : Option Nat} {l : Launch} {a : List PV} {Q : List Frame → State → State → Prop} {mc ms0 ce sl pc : Nat} {lv : List (Nat × PV)} {st : List PV} {u : Mu} {c d : Nat}
abbrev IW (G' : MG) (aK aV : Nat) (f : Option Nat) (l : Launch) (a : List PV) (Q : List Frame → State → State → Prop) (mc ms0 : Nat) (w : Mu × Nat × Nat) (ce sl pc : Nat) (lv : List (Nat × PV)) (st : List PV) : Prop := JW (kS G' aK aV f) (bI G') (aM G') l D5_init a Q mc ms0 w ce sl pc lv st
theorem iV_e {w : Mu × Nat × Nat} {k : Nat} (h : mkd (tyX5 k) = 0) : iV G' w k = mV G' w.1 k := by
  unfold iV
  rw [if_neg (fun q => q.1 h)]
theorem ne_1 (a r : Nat) : a + 1 + r ≠ a := by omega
theorem eq_1 {a r s : Nat} (h : a + 1 + r = a + 1 + s) : r = s := by omega
theorem nn_1 {n : Nat} (hn : n ≤ 1000000) : ¬ jI (n : Int) < 0 := by
  have w0 : w32 (n : Int) = n := w32_id (by omega) (by omega)
  intro z
  have h := I_lt.mp (show jI (n : Int) < jI 0 from z)
  rw [w0] at h
  have e : w32 0 = 0 := rfl
  omega
theorem nn_2 {n : Nat} (hn : n ≤ 1000000) : (jI (n : Int)).toNatClampNeg = n := by
  have w0 : w32 (n : Int) = n := w32_id (by omega) (by omega)
  rw [clamp_I, w0]
  omega
theorem i_new {k t n : Nat} {aty : ArrayType} (c' : Nat) (hR : mR k t n) (hrk : rk k = c) (hz : ∀ j, u.2 k j = 0) (hc' : c + 1 = c') (ht : zAt t aty) (hd : decode cX5_init pc = .ok (.newarray aty, 2)) (hcs : ce + 1 ≤ mc ∧ sl + n ≤ ms0) (hn : n ≤ 1000000) (kk : IW G' aK aV f l a Q mc ms0 (u, c', d) (ce + 1) (sl + n) (pc + 2) lv (pR (some (G'.1 + 1 + c)) :: st)) : IW G' aK aV f l a Q mc ms0 (u, c, d) ce sl pc lv (pI (n : Int) :: st) := by
  intro p e s m below meth c9 H locs ls X hr hlk hn9 hK hB hS hl
  obtain ⟨hKn, hOb, hArr, hsz⟩ := hB
  subst hc'
  have hsz : H.size = G'.1 + 1 + c := hsz
  have hb : componentBytes (newarray.typeOf aty) ≤ 8 := by cases aty <;> decide
  refine va_newaK X.1 X.2.1 (X.2.2.2.2 _ ht.1) rfl hd rfl (n := jI (n : Int)) (N := n) (nn_1 hn) (nn_2 hn) ?_ hcs.1 hcs.2 (h := G'.1 + 1 + c) hsz fun H1 cA e1 z1 o1 hAr hNm => ?_
  · calc n * componentBytes (newarray.typeOf aty) ≤ 1000000 * 8 := Nat.mul_le_mul hn hb
      _ ≤ 536870912 := by decide
  · obtain ⟨hk, hkd, hml, -, -⟩ := hR
    have hcell : arrV cA n (fun _ => defaultValue (newarray.typeOf aty)) = mC G' u k := by
      obtain ⟨-, t1, t2, t3⟩ := ht
      unfold mC
      rw [hkd, hml]
      have hcA : cA = G'.2.2.2.2 t ∧ defaultValue (newarray.typeOf aty) = if t = 4 then .long (jL 0) else .int (jI 0) := by
        rw [t3] at hNm ⊢
        have hra := hK.2.2 t t1 t2
        rcases (show t = 1 ∨ t = 2 ∨ t = 3 ∨ t = 4 by omega) with rfl | rfl | rfl | rfl
        · exact ⟨Option.some.inj (hNm.symm.trans hra), rfl⟩
        · exact ⟨Option.some.inj (hNm.symm.trans hra), rfl⟩
        · exact ⟨Option.some.inj (hNm.symm.trans hra), rfl⟩
        · exact ⟨Option.some.inj (hNm.symm.trans hra), rfl⟩
      rw [hcA.1, hcA.2]
      exact congrArg (arrV _ _) (funext fun j => by rw [hz j])
    refine kk p e s m below meth c9 H1 locs ls X hr hlk hn9 hK ⟨hKn, hOb.kept (o1 _ (by omega)), fun j hj hlt => ?_, by rw [z1]; show _ = G'.1 + 1 + (c + 1); omega⟩ (hS_grow hS (by rw [z1, hsz]) (fun q hq => o1 q (by omega))) hl
    have hlt : rk j < c + 1 := hlt
    by_cases hjc : rk j = c
    · have : j = k := rk_inj hj hk (hjc.trans hrk.symm)
      subst this
      show H1[G'.1 + 1 + rk j]? = some (mC G' u j)
      rw [hjc, e1, hcell]
    · rw [o1 (G'.1 + 1 + rk j) (by omega)]
      exact hArr j hj (show rk j < c by omega)
theorem i_K9 {s : State} (hK : u_Kn s RX5 TX5 116 G'.2.2.1 G'.2.2.2.1) : va_K (fun _ => G'.2.2.1, fun _ => G'.2.2.2.1) [(RX5, TX5, 116)] [] s := by
  refine ⟨fun c9 q9 h9 => ?_, fun k9 q9 h9 => by simp at h9⟩
  cases c9 with
  | zero => cases h9; exact hK
  | succ n => simp at h9
theorem i_put {k idx : Nat} {ty : FieldType} (d' : Nat) (hG : GI G') (hf : mF k idx (.array ty)) (hk0 : mkd (.array ty) ≠ 0) (hfin : (TX5 k).2.2.2 = true) (hrk : rk k = d) (hd' : d + 1 = d') (hd : decode cX5_init pc = .ok (.putfield idx, 3)) (kk : IW G' aK aV f l a Q mc ms0 (u, c, d') ce sl (pc + 3) lv st) : IW G' aK aV f l a Q mc ms0 (u, c, d) ce sl pc lv (pR (some (G'.1 + 1 + d)) :: pR (some G'.1) :: st) := by
  intro p e s m below meth c9 H locs ls X hr hlk hn9 hK hB hS hl
  obtain ⟨⟨hKn, hAr⟩, ⟨cell, q1, q2, q3, q4⟩, hArr, hsz⟩ := hB
  subst hd'
  obtain ⟨hk, hlink, hty, hd5, hrc⟩ := hf
  have hap := va_apart (own := RX5) X.2.2.2.2 in_X5 tyX5 tyX5_ok nmX5 (i_K9 hKn) (ci := 0) rfl
  obtain ⟨hSl, hfc, kC, hkC, hkind⟩ := hKn
  obtain ⟨cf, kf, fi, f9, hi, hsl⟩ := hSl k hk
  have hlay := X.2.2.2.2 _ (in_X5 _ (u_in_lay hk))
  unfold u_lay at hlay
  rw [if_pos hfin] at hlay
  have hst := (u_facts hfc hkC (u_lays X.2.2.2.2 in_X5 hk) hi).1
  have hcf : m.cls = cf := by
    obtain ⟨_, _, c', _, _, _, -, -, hf', -, -, -, hown2, -⟩ := Cond.laysFinal_spec hlay
    have e1 : c' = cf := by have := hi.symm.trans hf'; simp at this; exact this.1.symm
    rw [hrc] at hown2
    rw [← e1]; exact Option.some.inj (X.2.2.2.1.symm.trans hown2)
  have h6 := u_fits (v := mv (pR (some (G'.1 + 1 + d)))) hfc hkC hkind (Or.inr hlay) hi hd5 rfl rfl
  refine W.putFinK X.1 X.2.1 X.2.2.2.1 (X.2.2.2.2 _ hlink) (by rw [← hrc]; exact hi) hst hcf hn9 (by rw [q2]; exact h6) q1 q3 (by rw [hsl]; exact k2_hasslot (q4 k hk)) rfl rfl hd fun H' e1 e2 e3 => ?_
  rw [hsl] at e1 ⊢
  have hkI : mIs k := ⟨hk, by rw [hty]; exact hk0⟩
  refine kk p e s m below meth c9 H' _ ls X hr hlk hn9 hK ⟨⟨⟨hSl, hfc, kC, hkC, hkind⟩, hAr⟩, t_OB.to (V := updV (iV G' (u, c, d)) k (mv (pR (some (G'.1 + 1 + d))))) ⟨_, e1, q2, q3, t_set q4 hap hk _⟩ (fun j hj => ?_), fun j hj hlt => ?_, by rw [e2]; exact hsz⟩ (hS.put e2 e3 (Or.inl rfl)) hl
  · unfold updV
    by_cases hjk : j = k
    · rw [if_pos hjk, hjk]
      unfold iV mV
      rw [if_neg (fun q => by have := q.2; simp only at this; omega), hty, hG k hkI, hrk]
      rfl
    · rw [if_neg hjk]
      unfold iV
      by_cases h0 : mkd (tyX5 j) ≠ 0
      · have hne : rk j ≠ d := fun h => hjk (rk_inj ⟨hj, h0⟩ hkI (h.trans hrk.symm))
        by_cases h1 : d ≤ rk j
        · rw [if_pos ⟨h0, h1⟩, if_pos ⟨h0, by simp only; omega⟩]
        · rw [if_neg (fun q => h1 q.2), if_neg (fun q => by have := q.2; simp only at this; omega)]
      · rw [if_neg (fun q => h0 q.1), if_neg (fun q => h0 q.1)]
  · rw [e3 (G'.1 + 1 + rk j) (ne_1 _ _)]
    exact hArr j hj hlt
theorem i_puts {k idx : Nat} {z : Int} (hf : mF k idx .int) (hw : mFw k) (hd : decode cX5_init pc = .ok (.putfield idx, 3)) (kk : IW G' aK aV f l a Q mc ms0 (ms u k z, c, d) ce sl (pc + 3) lv st) : IW G' aK aV f l a Q mc ms0 (u, c, d) ce sl pc lv (pI z :: pR (some G'.1) :: st) := by
  intro p e s m below meth c9 H locs ls X hr hlk hn hK hB hS hl
  obtain ⟨⟨hKn, hAr⟩, ⟨cell, q1, q2, q3, q4⟩, hArr, hsz⟩ := hB
  obtain ⟨hk, hlink, hty, hd5, hrc⟩ := hf
  have hap := va_apart (own := RX5) X.2.2.2.2 in_X5 tyX5 tyX5_ok nmX5 (i_K9 hKn) (ci := 0) rfl
  obtain ⟨hSl, hfc, kC, hkC, hkind⟩ := hKn
  obtain ⟨cf, kf, fi, f9, hi, hsl⟩ := hSl k hk
  have hlay := X.2.2.2.2 _ (in_X5 _ (u_in_lay hk))
  unfold u_lay at hlay
  rw [if_neg (by rw [hw]; decide)] at hlay
  have hst := (u_facts hfc hkC (u_lays X.2.2.2.2 in_X5 hk) hi).1
  have h6 := u_store (v := mv (pI z)) hfc hkC hkind hlay hi hd5 rfl rfl
  refine W.putK X.1 X.2.1 (f := f9) (v := mv (pI z)) ⟨X.2.2.2.1, X.2.2.2.2 _ hlink, ⟨_, _, _, by rw [← hrc]; exact hi⟩, hst⟩ (by rw [q2]; exact h6) q1 q3 (by rw [hsl]; exact k2_hasslot (q4 k hk)) rfl rfl hd fun H' e1 e2 e3 => ?_
  rw [hsl] at e1 ⊢
  refine kk p e s m below meth c9 H' _ ls X hr hlk hn hK ⟨⟨⟨hSl, hfc, kC, hkC, hkind⟩, hAr⟩, t_OB.to (V := updV (iV G' (u, c, d)) k (mv (pI z))) ⟨_, e1, q2, q3, t_set q4 hap hk _⟩ (fun j hj => ?_), fun j hj hlt => ?_, by rw [e2]; exact hsz⟩ (hS.put e2 e3 (Or.inl rfl)) hl
  · unfold updV
    by_cases hjk : j = k
    · rw [if_pos hjk, hjk, iV_e (by rw [hty]; rfl)]
      unfold mV ms va_up
      rw [hty]
      simp [mv]
    · rw [if_neg hjk]
      unfold iV mV ms va_up
      simp only [if_neg hjk]
  · rw [e3 (G'.1 + 1 + rk j) (ne_1 _ _)]
    exact hArr j hj hlt
theorem i_geta {k idx : Nat} {ty : FieldType} (hf : mF k idx (.array ty)) (hdk : rk k < d) (hd : decode cX5_init pc = .ok (.getfield idx, 3)) (kk : IW G' aK aV f l a Q mc ms0 (u, c, d) ce sl (pc + 3) lv (pR (some (G'.2.1 k)) :: st)) : IW G' aK aV f l a Q mc ms0 (u, c, d) ce sl pc lv (pR (some G'.1) :: st) := by
  intro p e s m below meth c9 H locs ls X hr hlk hn hK hB hS hl
  have h := kk p e s m below meth c9 H locs ls X hr hlk hn hK hB hS hl
  obtain ⟨⟨⟨hSl, hfc, kC, hkC, hkind⟩, -⟩, ⟨cell, q1, q2, q3, q4⟩, -, -⟩ := hB
  obtain ⟨hk, hlink, hty, -, hrc⟩ := hf
  obtain ⟨cf, kf, fi, f9, hi, hsl⟩ := hSl k hk
  refine W.getf X.1 X.2.1 (X.2.2.2.1) (X.2.2.2.2 _ hlink) (by rw [← hrc]; exact hi) (u_facts hfc hkC (u_lays X.2.2.2.2 in_X5 hk) hi).1 q1 (by rw [q3]; exact fun h => by cases h) (v := mv (pR (some (G'.2.1 k)))) ?_ rfl rfl hd h
  rw [hsl, q4 k hk]
  unfold iV mV
  rw [if_neg (fun q => by have := q.2; simp only at this; omega), hty]
  rfl
theorem i_last {k n : Nat} {i v : Int} {w1 : Mu} (hG : GI G') (hR : mR k 4 n) (hck : rk k < c) (h : mast u k n i v = some w1) (hd : decode cX5_init pc = .ok (.lastore, 1)) (kk : IW G' aK aV f l a Q mc ms0 (w1, c, d) ce sl (pc + 1) lv st) : IW G' aK aV f l a Q mc ms0 (u, c, d) ce sl pc lv (pL v :: pI i :: pR (some (G'.2.1 k)) :: st) := by
  intro p e s m below meth c9 H locs ls X hr hlk hn hK hB hS hl
  obtain ⟨hi, hv⟩ := mast_some h
  subst hv
  obtain ⟨hk, ht, hm, -, -⟩ := hR
  obtain ⟨hKn, hOb, hArr, hsz⟩ := hB
  have hc := hArr k hk hck
  rw [← hG k hk] at hc
  unfold mC at hc
  rw [ht, hm] at hc
  refine W.last X.1 X.2.1 hc (hKn.2 4 (by decide) (by decide) n _) (fun q => by cases q) (by show ¬ (jI i < 0 ∨ (arrV _ _ _).slots.size ≤ _); rw [arrV_size]; exact in_I hi) rfl rfl hd fun H1 e9 z9 oq => ?_
  have hne : G'.1 ≠ G'.2.1 k := by rw [hG k hk]; omega
  refine kk p e s m below meth c9 H1 _ ls X hr hlk hn hK ⟨hKn, (hOb.kept (oq _ hne)).to (fun j _ => rfl), fun j hj hlt => ?_, by rw [z9]; exact hsz⟩ (hS.put z9 oq (Or.inr ⟨k, hk, rfl⟩)) hl
  by_cases hjk : j = k
  · subst hjk
    show H1[G'.1 + 1 + rk j]? = _
    rw [← hG j hk, e9, arrV_store]
    unfold mC
    rw [ht, hm]
    refine congrArg (fun F => some (arrV _ _ F)) (funext fun q => ?_)
    unfold updV ma va_up
    rw [clamp_I]
    by_cases hq : q = (w32 i).toNat
    · subst hq
      simp only [if_true]
      try rfl
    · simp only [if_neg hq, if_true]
  · rw [← hG j hj, oq (G'.2.1 j) (fun q => hjk (rk_inj hj hk (eq_1 (by rw [hG j hj, hG k hk] at q; exact q)))), hG j hj, hArr j hj hlt]
    unfold mC ma va_up
    simp only [if_neg hjk]
theorem i_ldc (hd : decode cX5_init pc = .ok (.ldc_w 283, 3)) (kk : IW G' aK aV f l a Q mc ms0 (u, c, d) ce sl (pc + 3) lv (pR (some aK) :: st)) : IW G' aK aV f l a Q mc ms0 (u, c, d) ce sl pc lv st := by
  intro p e s m below meth c9 H locs ls X hr hlk hn hK hB hS hl
  intro T hT X9
  obtain ⟨t, a1, b1⟩ := kk p e s m below meth c9 H locs ls X hr hlk hn hK hB hS hl T hT X9
  exact ⟨t, X9.ldcStringW X.1 X.2.2.2.1 (text := sTx) (a := aK) hK.2.1.1 hK.2.1.2 (g := F0 m pc ls (st.map mv)) rfl (by rw [X.2.1]; exact hd) t a1, b1⟩
theorem met_sizeG {Ω : Type} {Kt : State → Prop} {B : Ω → State → Heap → Prop} {A : Nat → Prop} {w w1 : Ω} {y : MethodName} {Dy : MD} {As : List PV} {o1 : Option PV} (hM : JM Kt B A l y Dy As w o1 w1 0 0) : Met l y (ws_ y Dy.2.1 Dy.2.2.1 Dy.2.2.2.1) (jroom Dy 0 0) (va_Pc (As.map mv) (fun U => Kt U ∧ B w U U.heap)) (fun a st oc t => kQ o1 w1 B A a st oc t ∧ t.heap.size = st.heap.size) 0 0 A := by
  intro p e ha hc hk s m9 args below hf happ hP hK
  obtain ⟨n, o, h1, h2, h3, h4, LL, hF, hL⟩ := hM p e ha hc hk s m9 args below hf happ hP hK
  refine ⟨n, o, h1, h2, h3, ⟨h4, ?_⟩, LL, hF, hL⟩
  obtain ⟨-, g2, g3, -⟩ := hF.2.2
  exact Nat.le_antisymm g3 g2
theorem i_wCh : jwV RX5 DJ6_charAt 285 yJ6_charAt := ⟨q1797, q1798, q1799, q141, q1800⟩
theorem i_dCh : jdV yJ6_charAt RJ6 1 := ⟨rfl, by decide +kernel, by decide +kernel, by decide +kernel⟩
theorem i_chr {i : Int} (k : Nat) (hk : k < 149) (hi : w32 i = k) (h8 : (st.map jcat).sum ≤ 8) (hd : decode cX5_init pc = .ok (.invokevirtual 285, 3)) (hcs : ce ≤ mc ∧ sl ≤ ms0) (kk : IW G' aK aV f l a Q mc ms0 (u, c, d) ce sl (pc + 3) lv (pI (sBi.getD k 0) :: st)) : IW G' aK aV f l a Q mc ms0 (u, c, d) ce sl pc lv (pI i :: pR (some aK) :: st) := by
  intro p e s m9 below meth c9 H locs ls X hr hlk hn9 hK hB hS hl
  have hBS : bS (aM G') aK aV f () s H := bS_kept hK.1 hS.2.1
  obtain ⟨q1, q2, q3, q4, q5⟩ := i_wCh
  refine jw_callR (o1 := some (pI (sBi.getD k 0))) (w1 := ()) (B := bS (aM G') aK aV f) (E := fun H H1 => H1.size = H.size) (mc := 0) (ms := 0) (rest := st.map mv) (a := ([pR (some aK), pI i].map mv).toArray) (va_runV (As := [pI i].map mv) (rest := st.map mv) (b := aK) X (met_sizeG (s_charAt k hk hi)) (cwV 1 X.2.2.2.2 (lw_V q1 q2 q3 q4 q5) rfl rfl rfl i_dCh ⟨(Nat.le_of_ble_eq_true rfl), (Nat.le_of_ble_eq_true rfl)⟩) ⟨jblind kT_v (bS_mv _ _ _ _) [pR (some aK), pI i], s_recv s H hBS, fun U hU hW => ⟨rfl, trivial, by rw [hU]; exact bS_mv _ _ _ _ () s U H hW.alike hBS⟩⟩ rfl rfl hl.1 (by simp [mv, va_rf]) (lv_room (by rw [jcat_sum]; exact h8)) hd hcs) (fun _ _ _ h => h) hS (fun q hq => hq.elim) ?_
  intro t H1 locs1 ht hvm hB1 hF hE hS1
  have hq : ∀ q, q < H.size → H1[q]? = H[q]? := fun q hq => hF.2.1 q hq (fun h => h)
  obtain ⟨hKn, hOb, hArr, hsz⟩ := hB
  have hob := hOb
  obtain ⟨cell, g1, -⟩ := hob
  have h := kk p e s m9 below meth c9 H1 locs1 ls X hr hlk hn9 hK ⟨hKn, hOb.kept (hq _ (Array.getElem?_eq_some_iff.mp g1).1), fun j hj hlt => by rw [hq _ (by have : rk j < c := hlt; have : H.size = G'.1 + 1 + c := hsz; omega)]; exact hArr j hj hlt, by rw [hE]; exact hsz⟩ hS1 hl
  exact h
end
section
theorem j_metQ {Ω : Type} {Kt : State → Prop} {B : Ω → State → Heap → Prop} {A : Nat → Prop} {l : Launch} {D : MD} {a : List PV} {w : Ω} {mc ms : Nat} {y : MethodName} {Qc : Array Value → State → Outcome → State → Prop} {lv0 : List (Nat × PV)} (h : jOk y D a lv0) (k : JW Kt B A l D a (fun below s => MQ below Qc (a.map mv).toArray s mc ms A) mc ms w 0 0 0 lv0 []) : Met l y (ws_ y D.2.1 D.2.2.1 D.2.2.2.1) (jroom D mc ms) (va_Pc (a.map mv) (fun U => Kt U ∧ B w U U.heap)) Qc mc ms A := by
  obtain ⟨hy, hc, hnm, hsz, h0⟩ := h
  subst h0
  refine Met.ofW (cc := D.2.1) (maxL := D.2.2.1) (ret := D.2.2.2.1) hy rfl ?_
  intro p e s m args below meth c s₁ B9 hml hv
  obtain ⟨rfl, hK, hB⟩ := hv
  have hts := atoms_spec (ws := ws_ y D.2.1 D.2.2.1 D.2.2.2.1) B9.pre
  have hts : ∀ w ∈ lw_all, w.before _ s = true := fun w h => hts w (List.mem_cons_of_mem _ h)
  have hown : s.vm.findClass y.cls = some m.cls := findClass_of_methodNamed B9.named
  have hl := lv_entry (a.map mv) (n := D.2.2.1) (by rw [jsz_eq]; exact hsz)
  rw [lg_entry_eq]
  rw [jargs_eq] at hl
  exact k p e s m below meth c s.heap [] _ ⟨B9.exec, B9.bytes, hml, by rw [← hc]; exact hown, hts⟩ B9.returns B9.notSynchronized (by rw [← hnm]; exact (name_of_methodNamed B9.named B9.method).1) hK hB va_S.rf hl
variable {G' : MG} {aK aV : Nat} {f : Option Nat} {l : Launch} {a : List PV} {Q : List Frame → State → State → Prop} {mc ms0 ce sl pc : Nat} {lv lv' : List (Nat × PV)} {st : List PV} {w : Mu × Nat × Nat}
theorem i_pick (ks : List Nat) (hk : ks.filterMap (fun k => lv[k]?) = lv') (kk : IW G' aK aV f l a Q mc ms0 w ce sl pc lv' st) : IW G' aK aV f l a Q mc ms0 w ce sl pc lv st := by
  intro p e s m below meth c9 H locs ls X hr hlk hn hK hB hS hl
  exact kk p e s m below meth c9 H locs ls X hr hlk hn hK hB hS (jl_pick hl ks hk)
theorem i_objInit {b : Nat} (hd : decode cX5_init pc = .ok (.invokespecial 1, 3)) (kk : IW G' aK aV f l a Q mc ms0 w ce sl (pc + 3) lv []) : IW G' aK aV f l a Q mc ms0 w ce sl pc lv [pR (some b)] := by
  intro p e s m below meth c9 H locs ls X hr hlk hn hK hB hS hl
  have h := kk p e s m below meth c9 H locs ls X hr hlk hn hK hB hS hl
  have h9 : 2 * (F0 m pc ls [mv (pR (some b))]).monitorRoom + (([] : List Value).map fun v => v.category).sum ≤ 8 := lv_room (by decide)
  exact W.objInit X.1 X.2.1 X.2.2.2.1 (X.2.2.2.2 _ q1793) (X.2.2.2.2 _ q177) (X.2.2.2.2 _ q178) rfl (by rw [X.2.2.1]; exact hl.1) rfl hd (show 1 ≤ 4 by decide) (Nat.le_trans (Nat.add_le_add_right h9 12) (show 8 + 12 ≤ 85 by decide)) h
end
