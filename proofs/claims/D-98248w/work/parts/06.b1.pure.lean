/-! PURE BASE: loops as least fixpoints over Option, binds, the twin's state (int fields, long fields, int arrays, long arrays, each by its field's place) -/
theorem bd {α β : Type} {x : Option α} {f : α → Option β} {r : β} {P : Prop} (h : x.bind f = some r) (k : ∀ a, x = some a → f a = some r → P) : P := by
  obtain ⟨a, h1, h2⟩ := Option.bind_eq_some_iff.mp h
  exact k a h1 h2
theorem it_pos {α : Type} {c : Prop} [Decidable c] {x y r : α} (hc : c) (h : (if c then x else y) = r) : x = r := by rw [if_pos hc] at h; exact h
theorem it_neg {α : Type} {c : Prop} [Decidable c] {x y r : α} (hc : ¬ c) (h : (if c then x else y) = r) : y = r := by rw [if_neg hc] at h; exact h
theorem gd_some {α : Type} {c : Prop} [Decidable c] {x : Option α} {r : α} (h : (if c then x else none) = some r) : c ∧ x = some r := by
  by_cases hc : c
  · rw [if_pos hc] at h; exact ⟨hc, h⟩
  · rw [if_neg hc] at h; cases h
def lpN {S R : Type} (body : S → Option (S ⊕ R)) : Nat → S → Option R
  | 0, _ => none
  | n + 1, s => (body s).bind (Sum.elim (lpN body n) some)
theorem lpN_mono {S R : Type} {body : S → Option (S ⊕ R)} : ∀ {n m : Nat} {s : S} {r : R}, n ≤ m → lpN body n s = some r → lpN body m s = some r := by
  intro n
  induction n with
  | zero => intro m s r _ h; cases h
  | succ n ih =>
    intro m s r hm h
    cases m with
    | zero => omega
    | succ m =>
      obtain ⟨x, h1, h2⟩ := Option.bind_eq_some_iff.mp h
      refine Option.bind_eq_some_iff.mpr ⟨x, h1, ?_⟩
      cases x with
      | inl s' => exact ih (by omega) h2
      | inr r' => exact h2
theorem lpN_det {S R : Type} {body : S → Option (S ⊕ R)} {n m : Nat} {s : S} {r r' : R} (h : lpN body n s = some r) (h' : lpN body m s = some r') : r = r' := by
  have h1 := lpN_mono (Nat.le_max_left n m) h
  have h2 := lpN_mono (Nat.le_max_right n m) h'
  rw [h1] at h2
  exact Option.some.inj h2
/-- the loop's answer, if it ends -/
noncomputable def lp {S R : Type} (body : S → Option (S ⊕ R)) (s : S) : Option R :=
  @dite _ (∃ r, ∃ n, lpN body n s = some r) (Classical.propDecidable _) (fun h => some h.choose) (fun _ => none)
theorem lp_iff {S R : Type} {body : S → Option (S ⊕ R)} {s : S} {r : R} : lp body s = some r ↔ ∃ n, lpN body n s = some r := by
  unfold lp
  by_cases h : ∃ r, ∃ n, lpN body n s = some r
  · rw [dif_pos h]
    constructor
    · intro e
      have e := Option.some.inj e
      rw [← e]
      exact h.choose_spec
    · intro ⟨n, hn⟩
      obtain ⟨m, hm⟩ := h.choose_spec
      rw [lpN_det hm hn]
  · rw [dif_neg h]
    constructor
    · intro e; cases e
    · intro e; exact absurd ⟨r, e⟩ h
theorem lp_step {S R : Type} {body : S → Option (S ⊕ R)} {s s' : S} {r : R} (h : body s = some (.inl s')) (h2 : lp body s' = some r) : lp body s = some r := by
  obtain ⟨n, hn⟩ := lp_iff.mp h2
  exact lp_iff.mpr ⟨n + 1, by show (body s).bind _ = _; rw [h]; exact hn⟩
theorem lp_exit {S R : Type} {body : S → Option (S ⊕ R)} {s : S} {r : R} (h : body s = some (.inr r)) : lp body s = some r :=
  lp_iff.mpr ⟨1, by show (body s).bind _ = _; rw [h]; rfl⟩
/-- a loop by its states one after another -/
theorem lp_run {S R : Type} {body : S → Option (S ⊕ R)} (st : Nat → S) (n : Nat) {r : R} (h : ∀ i, i < n → body (st i) = some (.inl (st (i + 1)))) (he : body (st n) = some (.inr r)) : lp body (st 0) = some r := by
  have key : ∀ k i, i + k = n → lp body (st i) = some r := by
    intro k
    induction k with
    | zero =>
      intro i hi
      obtain rfl : i = n := by omega
      exact lp_exit he
    | succ k ih =>
      intro i hi
      exact lp_step (h i (by omega)) (ih (i + 1) (by omega))
  exact key n 0 (by omega)
/-- a loop by an invariant and a measure -/
theorem lp_inv {S R : Type} {body : S → Option (S ⊕ R)} (I : S → Prop) (mu : S → Nat) {P : R → Prop} (h : ∀ s, I s → (∃ s', body s = some (.inl s') ∧ I s' ∧ mu s' < mu s) ∨ (∃ r, body s = some (.inr r) ∧ P r)) : ∀ s, I s → ∃ r, lp body s = some r ∧ P r := by
  have key : ∀ n s, mu s < n → I s → ∃ r, lp body s = some r ∧ P r := by
    intro n
    induction n with
    | zero => intro s hs; omega
    | succ n ih =>
      intro s hs hI
      rcases h s hI with ⟨s', h1, h2, h3⟩ | ⟨r, h1, h2⟩
      · obtain ⟨r, h4, h5⟩ := ih s' (by omega) h2
        exact ⟨r, lp_step h1 h4, h5⟩
      · exact ⟨r, lp_exit h1, h2⟩
  exact fun s hI => key (mu s + 1) s (by omega) hI
/-- the fixed cells' state: int fields, long fields, fields that hold references; int (byte) arrays, long arrays, arrays of references: each by its place's number -/
abbrev FS : Type := (Nat → Int32) × (Nat → Int64) × (Nat → Option Nat) × (Nat → Nat → Int32) × (Nat → Nat → Int64) × (Nat → Nat → Option Nat)
def sI (M : FS) (k : Nat) (v : Int32) : FS := (va_up M.1 k v, M.2)
def sL (M : FS) (k : Nat) (v : Int64) : FS := (M.1, va_up M.2.1 k v, M.2.2)
def sR (M : FS) (k : Nat) (v : Option Nat) : FS := (M.1, M.2.1, va_up M.2.2.1 k v, M.2.2.2)
def sA (M : FS) (k i : Nat) (v : Int32) : FS := (M.1, M.2.1, M.2.2.1, va_up M.2.2.2.1 k (va_up (M.2.2.2.1 k) i v), M.2.2.2.2)
def sB (M : FS) (k i : Nat) (v : Int64) : FS := (M.1, M.2.1, M.2.2.1, M.2.2.2.1, va_up M.2.2.2.2.1 k (va_up (M.2.2.2.2.1 k) i v), M.2.2.2.2.2)
def sQ (M : FS) (k i : Nat) (v : Option Nat) : FS := (M.1, M.2.1, M.2.2.1, M.2.2.2.1, M.2.2.2.2.1, va_up M.2.2.2.2.2 k (va_up (M.2.2.2.2.2 k) i v))
/-- a place of the k-th array, of n places -/
def rA (M : FS) (k n : Nat) (i : Int32) : Option Int32 := if i < 0 ∨ n ≤ i.toNatClampNeg then none else some (M.2.2.2.1 k i.toNatClampNeg)
def rB (M : FS) (k n : Nat) (i : Int32) : Option Int64 := if i < 0 ∨ n ≤ i.toNatClampNeg then none else some (M.2.2.2.2.1 k i.toNatClampNeg)
def rQ (M : FS) (k n : Nat) (i : Int32) : Option (Option Nat) := if i < 0 ∨ n ≤ i.toNatClampNeg then none else some (M.2.2.2.2.2 k i.toNatClampNeg)
def wA (M : FS) (k n : Nat) (i v : Int32) : Option FS := if i < 0 ∨ n ≤ i.toNatClampNeg then none else some (sA M k i.toNatClampNeg v)
/-- a byte stored -/
def wY (M : FS) (k n : Nat) (i v : Int32) : Option FS := if i < 0 ∨ n ≤ i.toNatClampNeg then none else some (sA M k i.toNatClampNeg v.toInt8.toInt32)
def wB (M : FS) (k n : Nat) (i : Int32) (v : Int64) : Option FS := if i < 0 ∨ n ≤ i.toNatClampNeg then none else some (sB M k i.toNatClampNeg v)
def wQ (M : FS) (k n : Nat) (i : Int32) (v : Option Nat) : Option FS := if i < 0 ∨ n ≤ i.toNatClampNeg then none else some (sQ M k i.toNatClampNeg v)
theorem out_some {α : Type} {c : Prop} [Decidable c] {x v : α} (h : (if c then none else some x) = some v) : ¬ c ∧ x = v := by
  by_cases hc : c
  · rw [if_pos hc] at h; cases h
  · rw [if_neg hc] at h; exact ⟨hc, Option.some.inj h⟩
theorem rA_some {M : FS} {k n : Nat} {i v : Int32} (h : rA M k n i = some v) : vp_in i n ∧ M.2.2.2.1 k i.toNatClampNeg = v := out_some h
theorem rB_some {M : FS} {k n : Nat} {i : Int32} {v : Int64} (h : rB M k n i = some v) : vp_in i n ∧ M.2.2.2.2.1 k i.toNatClampNeg = v := out_some h
theorem rQ_some {M : FS} {k n : Nat} {i : Int32} {v : Option Nat} (h : rQ M k n i = some v) : vp_in i n ∧ M.2.2.2.2.2 k i.toNatClampNeg = v := out_some h
theorem wA_some {M M' : FS} {k n : Nat} {i v : Int32} (h : wA M k n i v = some M') : vp_in i n ∧ sA M k i.toNatClampNeg v = M' := out_some h
theorem wY_some {M M' : FS} {k n : Nat} {i v : Int32} (h : wY M k n i v = some M') : vp_in i n ∧ sA M k i.toNatClampNeg v.toInt8.toInt32 = M' := out_some h
theorem wB_some {M M' : FS} {k n : Nat} {i : Int32} {v : Int64} (h : wB M k n i v = some M') : vp_in i n ∧ sB M k i.toNatClampNeg v = M' := out_some h
theorem wQ_some {M M' : FS} {k n : Nat} {i : Int32} {v : Option Nat} (h : wQ M k n i v = some M') : vp_in i n ∧ sQ M k i.toNatClampNeg v = M' := out_some h
/-- a boolean: 0 or 1 -/
def bz (v : Int32) : Option Int32 := if v = 0 ∨ v = 1 then some v else none
theorem bz_some {v w : Int32} (h : bz v = some w) : v = w ∧ (w = 0 ∨ w = 1) := by
  unfold bz at h
  by_cases hc : v = 0 ∨ v = 1
  · rw [if_pos hc] at h; obtain rfl := Option.some.inj h; exact ⟨rfl, hc⟩
  · rw [if_neg hc] at h; cases h
/-- a divisor that isn't 0 -/
def nz (v : Int32) : Option Unit := if v = 0 then none else some ()
def nzl (v : Int64) : Option Unit := if v = 0 then none else some ()
theorem nz_some {v : Int32} {u : Unit} (h : nz v = some u) : ¬ v = 0 := (out_some h).1
theorem nzl_some {v : Int64} {u : Unit} (h : nzl v = some u) : ¬ v = 0 := (out_some h).1
theorem bz_or {v w : Int32} (h : bz v = some w) : v = 0 ∨ v = 1 := by
  have := bz_some h
  rw [this.1]; exact this.2
theorem lpc {S R : Type} {s : S} {x : S ⊕ R} {f : S → Option R} {u : R} (h : some (Sum.inl s) = some x) (hk : Sum.elim f some x = some u) : f s = some u := by cases h; exact hk
theorem lpe {S R : Type} {r : R} {x : S ⊕ R} {f : S → Option R} {u : R} (h : some (Sum.inr r) = some x) (hk : Sum.elim f some x = some u) : r = u := by cases h; exact Option.some.inj hk
theorem elr {A B R : Type} {f : A → Option R} {g : B → Option R} {u : A ⊕ B} {t : B} {r : Option R} (h : Sum.elim f g u = r) (he : Sum.inr t = u) : g t = r := by subst he; exact h
theorem ell {A B R : Type} {f : A → Option R} {g : B → Option R} {u : A ⊕ B} {t : A} {r : Option R} (h : Sum.elim f g u = r) (he : Sum.inl t = u) : f t = r := by subst he; exact h
theorem e1 {A B : Type} {a : A} {b : B} {t : A × B} (h : some (a, b) = some t) : a = t.1 := by cases h; rfl
theorem e2 {A B : Type} {a : A} {b : B} {t : A × B} (h : some (a, b) = some t) : b = t.2 := by cases h; rfl
