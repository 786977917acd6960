/-! PURE LAYER, base: 'ok x P' (x comes to an answer with P), its rules, loops -/
def ok {α : Type} (x : Option α) (P : α → Prop) : Prop := ∃ r, x = some r ∧ P r
theorem ok_some {α : Type} {a : α} {P : α → Prop} (h : P a) : ok (some a) P := ⟨a, rfl, h⟩
theorem ok_mono {α : Type} {x : Option α} {P Q : α → Prop} (h : ok x P) (hq : ∀ a, P a → Q a) : ok x Q := by
  obtain ⟨r, e, p⟩ := h; exact ⟨r, e, hq r p⟩
theorem ok_bind {α β : Type} {x : Option α} {f : α → Option β} {P : β → Prop} (h : ok x (fun a => ok (f a) P)) : ok (x.bind f) P := by
  obtain ⟨r, e, s, e2, p⟩ := h; exact ⟨s, by rw [e]; exact e2, p⟩
/-- a call that is known by its specification -/
theorem ok_call {α β : Type} {x : Option α} {f : α → Option β} {P : β → Prop} {Q : α → Prop} (h : ok x Q) (k : ∀ a, Q a → ok (f a) P) : ok (x.bind f) P := ok_bind (ok_mono h k)
/-- a call that is known by an equation -/
theorem ok_eq {α β : Type} {x : Option α} {f : α → Option β} {P : β → Prop} {a : α} (h : x = some a) (k : ok (f a) P) : ok (x.bind f) P := by rw [h]; exact k
theorem ok_st {α β : Type} {a : α} {f : α → Option β} {P : β → Prop} (k : ok (f a) P) : ok ((some a).bind f) P := k
theorem ok_ite {α : Type} {c : Prop} {d : Decidable c} {x y : Option α} {P : α → Prop} (h1 : c → ok x P) (h2 : ¬ c → ok y P) : ok (@ite _ c d x y) P := by
  by_cases h : c
  · rw [if_pos h]; exact h1 h
  · rw [if_neg h]; exact h2 h
theorem ok_pos {α : Type} {c : Prop} {d : Decidable c} {x y : Option α} {P : α → Prop} (hc : c) (h1 : ok x P) : ok (@ite _ c d x y) P := by rw [if_pos hc]; exact h1
theorem ok_neg {α : Type} {c : Prop} {d : Decidable c} {x y : Option α} {P : α → Prop} (hc : ¬ c) (h1 : ok y P) : ok (@ite _ c d x y) P := by rw [if_neg hc]; exact h1
theorem ok_map {α β : Type} {x : Option α} {f : α → β} {P : β → Prop} (h : ok x (fun a => P (f a))) : ok (x.map f) P := by
  obtain ⟨r, e, p⟩ := h; exact ⟨f r, by rw [e]; rfl, p⟩
theorem ok_eqv {α : Type} {x : Option α} {a : α} {P : α → Prop} (h : x = some a) (p : P a) : ok x P := ⟨a, h, p⟩
theorem ok_is {α : Type} {x : Option α} {a : α} (h : ok x (fun r => r = a)) : x = some a := by obtain ⟨r, e, p⟩ := h; rw [e, p]
/-- composition that counts cells and slots -/
theorem ok_bdU {α β : Type} {x : Option (α × Nat × Nat)} {k : α → Option (β × Nat × Nat)} {P : β × Nat × Nat → Prop} (h : ok x (fun q => ok (k q.1) (fun r => P (r.1, r.2.1 + q.2.1, r.2.2 + q.2.2)))) : ok (bdU x k) P := by
  obtain ⟨q, e, r, e2, p⟩ := h
  exact ⟨(r.1, r.2.1 + q.2.1, r.2.2 + q.2.2), by unfold bdU; rw [e]; show Option.map _ (k q.1) = _; rw [e2]; rfl, p⟩
theorem bdU_e {α β : Type} {a : α} {c n : Nat} {k : α → Option (β × Nat × Nat)} : bdU (some (a, c, n)) k = (k a).map fun r => (r.1, r.2.1 + c, r.2.2 + n) := rfl
/-- ok with bounds on what is made: at most C cells of S slots -/
def okU {α : Type} (x : Option (α × Nat × Nat)) (C S : Nat) (P : α → Prop) : Prop := ok x (fun r => P r.1 ∧ r.2.1 ≤ C ∧ r.2.2 ≤ S)
theorem okU_some {α : Type} {a : α} {c s C S : Nat} {P : α → Prop} (h : P a) (hc : c ≤ C) (hs : s ≤ S) : okU (some (a, c, s)) C S P := ⟨_, rfl, h, hc, hs⟩
theorem okU_mono {α : Type} {x : Option (α × Nat × Nat)} {C S C' S' : Nat} {P Q : α → Prop} (h : okU x C S P) (hC : C ≤ C') (hS : S ≤ S') (hq : ∀ a, P a → Q a) : okU x C' S' Q :=
  ok_mono h (fun r p => ⟨hq _ p.1, Nat.le_trans p.2.1 hC, Nat.le_trans p.2.2 hS⟩)
/-- the first part takes C1 cells and S1 slots of the C and S that may be made -/
theorem okU_bdU {α β : Type} {x : Option (α × Nat × Nat)} {k : α → Option (β × Nat × Nat)} {C S C1 S1 : Nat} {P : β → Prop} {Q : α → Prop} (h : okU x C1 S1 Q) (hC : C1 ≤ C) (hS : S1 ≤ S) (kk : ∀ q, Q q → okU (k q) (C - C1) (S - S1) P) : okU (bdU x k) C S P := by
  obtain ⟨q, e, hq, h1, h2⟩ := h
  obtain ⟨r, e2, hr, h3, h4⟩ := kk q.1 hq
  exact ⟨(r.1, r.2.1 + q.2.1, r.2.2 + q.2.2), by unfold bdU; rw [e]; show Option.map _ (k q.1) = _; rw [e2]; rfl, hr, by show r.2.1 + q.2.1 ≤ C; omega, by show r.2.2 + q.2.2 ≤ S; omega⟩
theorem okU_bind {α β : Type} {x : Option α} {f : α → Option (β × Nat × Nat)} {C S : Nat} {P : β → Prop} {Q : α → Prop} (h : ok x Q) (k : ∀ a, Q a → okU (f a) C S P) : okU (x.bind f) C S P := ok_call h k
theorem okU_eq {α β : Type} {x : Option α} {f : α → Option (β × Nat × Nat)} {C S : Nat} {P : β → Prop} {a : α} (h : x = some a) (k : okU (f a) C S P) : okU (x.bind f) C S P := ok_eq h k
theorem okU_ite {α : Type} {c : Prop} {d : Decidable c} {x y : Option (α × Nat × Nat)} {C S : Nat} {P : α → Prop} (h1 : c → okU x C S P) (h2 : ¬ c → okU y C S P) : okU (@ite _ c d x y) C S P := ok_ite h1 h2
theorem okU_new {β : Type} {s : Sg} {t N : Nat} {k : Nat × Sg → Option (β × Nat × Nat)} {C S : Nat} {P : β → Prop} (hC : 1 ≤ C) (hS : N ≤ S) (kk : okU (k (zN s, znew s t 0)) (C - 1) (S - N) P) : okU (bdU (zNew s t N) k) C S P :=
  okU_bdU (C1 := 1) (S1 := N) (Q := fun q => q = (zN s, znew s t 0)) ⟨_, rfl, rfl, Nat.le_refl _, Nat.le_refl _⟩ hC hS (fun q hq => by rw [hq]; exact kk)
/-- a loop: the measure falls, the invariant holds -/
theorem loop_ind {σ R : Type} (f : Nat → σ → Option R) (μ : σ → Nat) (I : σ → Prop) (Q : σ → R → Prop) (h : ∀ n s, I s → (∀ s', I s' → μ s' < μ s → ok (f n s') (Q s')) → ok (f (n + 1) s) (Q s)) : ∀ n s, I s → μ s < n → ok (f n s) (Q s) := by
  intro n
  induction n with
  | zero => intro s _ hn; exact absurd hn (Nat.not_lt_zero _)
  | succ n ih => intro s hI hn; exact h n s hI (fun s' hI' hm => ih s' hI' (by omega))
theorem NN_gt {k : Nat} (h : k < 100000) : k < NN := Nat.lt_of_lt_of_le h NN_ge
/-! words of 32 and 64 bits -/
theorem w32_n {n : Nat} (h : n < 2147483648) : w32 (n : Int) = n := w32_id (by omega) (by omega)
theorem w32_nt {n : Nat} (h : n < 2147483648) : (w32 (n : Int)).toNat = n := by rw [w32_n h]; rfl
theorem w8_id {x : Int} (h1 : -128 ≤ x) (h2 : x < 128) : w8 x = x := by unfold w8; omega
theorem w8_w8 (x : Int) : w8 (w8 x) = w8 x := by unfold w8; omega
theorem w8_lo (x : Int) : -128 ≤ w8 x := by unfold w8; omega
theorem w8_hi (x : Int) : w8 x < 128 := by unfold w8; omega
/-! the model's state -/
theorem va_up_e {α : Type} {f : Nat → α} {a : Nat} {v : α} {b : Nat} : va_up f a v b = if b = a then v else f b := rfl
theorem ms_1 {m : Mu} {k : Nat} {v : Int} {j : Nat} : (ms m k v).1 j = if j = k then v else m.1 j := rfl
theorem ms_2 {m : Mu} {k : Nat} {v : Int} : (ms m k v).2 = m.2 := rfl
theorem ma_1 {m : Mu} {k i : Nat} {v : Int} : (ma m k i v).1 = m.1 := rfl
theorem ma_2 {m : Mu} {k i : Nat} {v : Int} {j : Nat} : (ma m k i v).2 j = if j = k then va_up (m.2 k) i v else m.2 j := rfl
theorem ma_s {m : Mu} {k i : Nat} {v : Int} {b : Nat} : (ma m k i v).2 k b = if b = i then v else m.2 k b := by rw [ma_2, if_pos rfl]; rfl
theorem ma_o {m : Mu} {k i : Nat} {v : Int} {j : Nat} (h : j ≠ k) : (ma m k i v).2 j = m.2 j := by rw [ma_2, if_neg h]
theorem mald_e {m : Mu} {k n : Nat} {i : Int} (j : Nat) (h : i = j) (hj : j < n) (hn : n ≤ 100000) : mald m k n i = some (m.2 k j) := by
  subst h; unfold mald; rw [w32_n (by omega), if_pos ⟨by omega, by omega⟩]; rfl
theorem mast_e {m : Mu} {k n : Nat} {i v : Int} (j : Nat) (h : i = j) (hj : j < n) (hn : n ≤ 100000) : mast m k n i v = some (ma m k j v) := by
  subst h; unfold mast; rw [w32_n (by omega), if_pos ⟨by omega, by omega⟩]; rfl
theorem ok_mald {β : Type} {m : Mu} {k n : Nat} {i : Int} {f : Int → Option β} {P : β → Prop} (j : Nat) (h : i = j) (hj : j < n) (hn : n ≤ 100000) (kk : ok (f (m.2 k j)) P) : ok ((mald m k n i).bind f) P := ok_eq (mald_e j h hj hn) kk
theorem ok_mast {β : Type} {m : Mu} {k n : Nat} {i v : Int} {f : Mu → Option β} {P : β → Prop} (j : Nat) (h : i = j) (hj : j < n) (hn : n ≤ 100000) (kk : ok (f (ma m k j v)) P) : ok ((mast m k n i v).bind f) P := ok_eq (mast_e j h hj hn) kk
/-- since m, only the scalars S and the arrays T have changed -/
def mfr (S T : List Nat) (m m' : Mu) : Prop := (∀ k, k ∉ S → m'.1 k = m.1 k) ∧ ∀ k, k ∉ T → m'.2 k = m.2 k
theorem mfr_rf {S T : List Nat} {m : Mu} : mfr S T m m := ⟨fun _ _ => rfl, fun _ _ => rfl⟩
theorem mfr_tr {S T : List Nat} {a b c : Mu} (h1 : mfr S T a b) (h2 : mfr S T b c) : mfr S T a c := ⟨fun k hk => (h2.1 k hk).trans (h1.1 k hk), fun k hk => (h2.2 k hk).trans (h1.2 k hk)⟩
theorem mfr_up {S T S' T' : List Nat} {a b : Mu} (h : mfr S T a b) (hS : ∀ k ∈ S, k ∈ S') (hT : ∀ k ∈ T, k ∈ T') : mfr S' T' a b := ⟨fun k hk => h.1 k (fun q => hk (hS k q)), fun k hk => h.2 k (fun q => hk (hT k q))⟩
theorem mfr_ms {S T : List Nat} {a b : Mu} {k : Nat} {v : Int} (h : mfr S T a b) (hk : k ∈ S) : mfr S T a (ms b k v) := ⟨fun j hj => by rw [ms_1, if_neg (fun q => hj (by rw [q]; exact hk))]; exact h.1 j hj, h.2⟩
theorem mfr_ma {S T : List Nat} {a b : Mu} {k i : Nat} {v : Int} (h : mfr S T a b) (hk : k ∈ T) : mfr S T a (ma b k i v) := ⟨h.1, fun j hj => by rw [ma_o (fun q => hj (by rw [q]; exact hk))]; exact h.2 j hj⟩
/-! the class's heap -/
theorem zsI_T {s : Sg} {a g : Nat} {v : Int} : zT (zsI s a g v) = zT s := rfl
theorem zsI_L {s : Sg} {a g : Nat} {v : Int} : zL (zsI s a g v) = zL s := rfl
theorem zsI_R {s : Sg} {a g : Nat} {v : Int} : zR (zsI s a g v) = zR s := rfl
theorem zsI_A {s : Sg} {a g : Nat} {v : Int} : zA (zsI s a g v) = zA s := rfl
theorem zsI_B {s : Sg} {a g : Nat} {v : Int} : zB (zsI s a g v) = zB s := rfl
theorem zsI_N {s : Sg} {a g : Nat} {v : Int} : zN (zsI s a g v) = zN s := rfl
theorem zsI_I {s : Sg} {a g : Nat} {v : Int} {b j : Nat} : zI (zsI s a g v) b j = if b = a ∧ j = g then v else zI s b j := rfl
theorem zsR_T {s : Sg} {a g : Nat} {v : Option Nat} : zT (zsR s a g v) = zT s := rfl
theorem zsR_L {s : Sg} {a g : Nat} {v : Option Nat} : zL (zsR s a g v) = zL s := rfl
theorem zsR_I {s : Sg} {a g : Nat} {v : Option Nat} : zI (zsR s a g v) = zI s := rfl
theorem zsR_A {s : Sg} {a g : Nat} {v : Option Nat} : zA (zsR s a g v) = zA s := rfl
theorem zsR_B {s : Sg} {a g : Nat} {v : Option Nat} : zB (zsR s a g v) = zB s := rfl
theorem zsR_N {s : Sg} {a g : Nat} {v : Option Nat} : zN (zsR s a g v) = zN s := rfl
theorem zsR_R {s : Sg} {a g : Nat} {v : Option Nat} {b j : Nat} : zR (zsR s a g v) b j = if b = a ∧ j = g then v else zR s b j := rfl
theorem zsA_T {s : Sg} {a g : Nat} {v : Int} : zT (zsA s a g v) = zT s := rfl
theorem zsA_L {s : Sg} {a g : Nat} {v : Int} : zL (zsA s a g v) = zL s := rfl
theorem zsA_R {s : Sg} {a g : Nat} {v : Int} : zR (zsA s a g v) = zR s := rfl
theorem zsA_I {s : Sg} {a g : Nat} {v : Int} : zI (zsA s a g v) = zI s := rfl
theorem zsA_B {s : Sg} {a g : Nat} {v : Int} : zB (zsA s a g v) = zB s := rfl
theorem zsA_N {s : Sg} {a g : Nat} {v : Int} : zN (zsA s a g v) = zN s := rfl
theorem zsA_A {s : Sg} {a g : Nat} {v : Int} {b j : Nat} : zA (zsA s a g v) b j = if b = a ∧ j = g then v else zA s b j := rfl
theorem zsB_T {s : Sg} {a g : Nat} {v : Option Nat} : zT (zsB s a g v) = zT s := rfl
theorem zsB_L {s : Sg} {a g : Nat} {v : Option Nat} : zL (zsB s a g v) = zL s := rfl
theorem zsB_I {s : Sg} {a g : Nat} {v : Option Nat} : zI (zsB s a g v) = zI s := rfl
theorem zsB_A {s : Sg} {a g : Nat} {v : Option Nat} : zA (zsB s a g v) = zA s := rfl
theorem zsB_R {s : Sg} {a g : Nat} {v : Option Nat} : zR (zsB s a g v) = zR s := rfl
theorem zsB_N {s : Sg} {a g : Nat} {v : Option Nat} : zN (zsB s a g v) = zN s := rfl
theorem zsB_B {s : Sg} {a g : Nat} {v : Option Nat} {b j : Nat} : zB (zsB s a g v) b j = if b = a ∧ j = g then v else zB s b j := rfl
theorem znew_N {s : Sg} {t n : Nat} : zN (znew s t n) = zN s + 1 := rfl
theorem znew_T {s : Sg} {t n b : Nat} : zT (znew s t n) b = if b = zN s then t else zT s b := rfl
theorem znew_L {s : Sg} {t n b : Nat} : zL (znew s t n) b = if b = zN s then n else zL s b := rfl
theorem znew_I {s : Sg} {t n b : Nat} : zI (znew s t n) b = if b = zN s then fun _ => 0 else zI s b := rfl
theorem znew_R {s : Sg} {t n b : Nat} : zR (znew s t n) b = if b = zN s then fun _ => none else zR s b := rfl
theorem znew_A {s : Sg} {t n b : Nat} : zA (znew s t n) b = if b = zN s then fun _ => 0 else zA s b := rfl
theorem znew_B {s : Sg} {t n b : Nat} : zB (znew s t n) b = if b = zN s then fun _ => none else zB s b := rfl
theorem gfI_e {s : Sg} {t g a : Nat} (h : zT s a = t) : gfI s t g (some a) = some (zI s a g) := if_pos h
theorem gfR_e {s : Sg} {t g a : Nat} (h : zT s a = t) : gfR s t g (some a) = some (zR s a g) := if_pos h
theorem gfR_v {s : Sg} {t g a : Nat} {r : Option Nat} (h : zT s a = t) (hr : zR s a g = r) : gfR s t g (some a) = some r := by rw [gfR_e h, hr]
theorem gfI_v {s : Sg} {t g a : Nat} {r : Int} (h : zT s a = t) (hr : zI s a g = r) : gfI s t g (some a) = some r := by rw [gfI_e h, hr]
theorem pfI_e {G0 : Nat} {s : Sg} {t g a : Nat} {v : Int} (h : zT s a = t) (h0 : G0 ≤ a) : pfI G0 s t g (some a) v = some (zsI s a g v) := if_pos ⟨h, h0⟩
theorem pfR_e {G0 : Nat} {s : Sg} {t g a : Nat} {v : Option Nat} (h : zT s a = t) (h0 : G0 ≤ a) : pfR G0 s t g (some a) v = some (zsR s a g v) := if_pos ⟨h, h0⟩
theorem ztg_e {s : Sg} {t a : Nat} (h : zT s a = t) : ztg s t (some a) = some a := if_pos h
theorem zcast_e {s : Sg} {ts : List Nat} {a : Nat} (h : zT s a ∈ ts) : zcast s ts (some a) = some () := if_pos h
theorem zcast_1 {s : Sg} {t a : Nat} (h : zT s a = t) : zcast s [t] (some a) = some () := if_pos (by rw [h]; exact List.mem_cons_self)
theorem alen_e {s : Sg} {t a : Nat} (h : zT s a = 100 + t) : alen s t (some a) = some (zL s a : Int) := if_pos h
theorem alI_e {s : Sg} {t a : Nat} {i : Int} (j : Nat) (h : zT s a = 100 + t) (hi : i = j) (hj : j < zL s a) (hL : zL s a ≤ 100000) : alI s t (some a) i = some (zA s a j) := by
  subst hi; unfold alI; show (if _ then _ else _) = _; rw [w32_n (by omega), if_pos ⟨h, by omega, by omega⟩]; rfl
theorem alR_e {s : Sg} {t a : Nat} {i : Int} (j : Nat) (h : zT s a = 100 + t) (hi : i = j) (hj : j < zL s a) (hL : zL s a ≤ 100000) : alR s t (some a) i = some (zB s a j) := by
  subst hi; unfold alR; show (if _ then _ else _) = _; rw [w32_n (by omega), if_pos ⟨h, by omega, by omega⟩]; rfl
theorem asI_e {G0 : Nat} {s : Sg} {t a : Nat} {i v : Int} (j : Nat) (h : zT s a = 100 + t) (h0 : G0 ≤ a) (hi : i = j) (hj : j < zL s a) (hL : zL s a ≤ 100000) : asI G0 s t (some a) i v = some (zsA s a j v) := by
  subst hi; unfold asI; show (if _ then _ else _) = _; rw [w32_n (by omega), if_pos ⟨⟨h, h0⟩, by omega, by omega⟩]; rfl
theorem asR_e {G0 : Nat} {s : Sg} {a : Nat} {i : Int} {v : Option Nat} (j : Nat) (hv : ∀ b, v = some b → zT s b ∈ OT) (h : zT s a = 105) (h0 : G0 ≤ a) (hi : i = j) (hj : j < zL s a) (hL : zL s a ≤ 100000) : asR G0 s (some a) i v = some (zsB s a j v) := by
  have hc : zcast s OT v = some () := by
    cases v with
    | none => rfl
    | some b => exact zcast_e (hv b rfl)
  subst hi; unfold asR; rw [hc]; show (if _ then _ else _) = _; rw [w32_n (by omega), if_pos ⟨⟨h, h0⟩, by omega, by omega⟩]; rfl
theorem zNewA_e {s : Sg} {t : Nat} {i : Int} (j : Nat) (hi : i = j) (hj : j ≤ 100000) : zNewA s t i = some ((zN s, znew s (100 + t) j), 1, j) := by
  subst hi; unfold zNewA; rw [w32_n (by omega), if_pos ⟨by omega, by omega⟩]; rfl
theorem zNewQ_e {s : Sg} {i : Int} (j : Nat) (hi : i = j) (hj : j ≤ 100000) : zNewQ s i = some ((zN s, znew s 105 j), 1, j) := by
  subst hi; unfold zNewQ; rw [w32_n (by omega), if_pos ⟨by omega, by omega⟩]; rfl
theorem okU_newA {β : Type} {s : Sg} {t : Nat} {i : Int} {k : Nat × Sg → Option (β × Nat × Nat)} {C S : Nat} {P : β → Prop} (j : Nat) (hi : i = j) (hj : j ≤ 100000) (hC : 1 ≤ C) (hS : j ≤ S) (kk : okU (k (zN s, znew s (100 + t) j)) (C - 1) (S - j) P) : okU (bdU (zNewA s t i) k) C S P :=
  okU_bdU (C1 := 1) (S1 := j) (Q := fun q => q = (zN s, znew s (100 + t) j)) ⟨_, zNewA_e j hi hj, rfl, Nat.le_refl _, Nat.le_refl _⟩ hC hS (fun q hq => by rw [hq]; exact kk)
/-- what lies at a is the same -/
def sam (u u' : Sg) (a : Nat) : Prop := zT u' a = zT u a ∧ zL u' a = zL u a ∧ zI u' a = zI u a ∧ zR u' a = zR u a ∧ zA u' a = zA u a ∧ zB u' a = zB u a
theorem sam_rf {u : Sg} {a : Nat} : sam u u a := ⟨rfl, rfl, rfl, rfl, rfl, rfl⟩
theorem sam_tr {u v w : Sg} {a : Nat} (h1 : sam u v a) (h2 : sam v w a) : sam u w a := ⟨h2.1.trans h1.1, h2.2.1.trans h1.2.1, h2.2.2.1.trans h1.2.2.1, h2.2.2.2.1.trans h1.2.2.2.1, h2.2.2.2.2.1.trans h1.2.2.2.2.1, h2.2.2.2.2.2.trans h1.2.2.2.2.2⟩
theorem sam_zsI {u v : Sg} {a b g : Nat} {x : Int} (h : sam u v a) (hb : a ≠ b) : sam u (zsI v b g x) a := ⟨h.1, h.2.1, by rw [← h.2.2.1]; funext j; rw [zsI_I, if_neg (fun q => hb q.1)], h.2.2.2⟩
theorem sam_zsA {u v : Sg} {a b g : Nat} {x : Int} (h : sam u v a) (hb : a ≠ b) : sam u (zsA v b g x) a := ⟨h.1, h.2.1, h.2.2.1, h.2.2.2.1, by rw [← h.2.2.2.2.1]; funext j; rw [zsA_A, if_neg (fun q => hb q.1)], h.2.2.2.2.2⟩
theorem sam_zsR {u v : Sg} {a b g : Nat} {x : Option Nat} (h : sam u v a) (hb : a ≠ b) : sam u (zsR v b g x) a := ⟨h.1, h.2.1, h.2.2.1, by rw [← h.2.2.2.1]; funext j; rw [zsR_R, if_neg (fun q => hb q.1)], h.2.2.2.2⟩
theorem sam_zsB {u v : Sg} {a b g : Nat} {x : Option Nat} (h : sam u v a) (hb : a ≠ b) : sam u (zsB v b g x) a := ⟨h.1, h.2.1, h.2.2.1, h.2.2.2.1, h.2.2.2.2.1, by rw [← h.2.2.2.2.2]; funext j; rw [zsB_B, if_neg (fun q => hb q.1)]⟩
theorem sam_znew {u v : Sg} {a t n : Nat} (h : sam u v a) (hb : a ≠ zN v) : sam u (znew v t n) a :=
  ⟨by rw [znew_T, if_neg hb]; exact h.1, by rw [znew_L, if_neg hb]; exact h.2.1, by rw [znew_I, if_neg hb]; exact h.2.2.1, by rw [znew_R, if_neg hb]; exact h.2.2.2.1, by rw [znew_A, if_neg hb]; exact h.2.2.2.2.1, by rw [znew_B, if_neg hb]; exact h.2.2.2.2.2⟩
