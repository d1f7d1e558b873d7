/-! THE OTHER CELLS: drawers, leads, crossings, steps, trays, kept ones, their arrays. K: the cells by address, the next address, how many cells and how many slots may still be made -/
abbrev KT : Type := AH × Nat × Nat × Nat
def dV (K : KT) (ci k a : Nat) : Option Value := match K.1 a with
  | some (.inr o) => if o.1 = ci then o.2[k]? else none
  | _ => none
def dI (K : KT) (ci k a : Nat) : Option Int32 := match dV K ci k a with
  | some (.int v) => some v
  | _ => none
def dL (K : KT) (ci k a : Nat) : Option Int64 := match dV K ci k a with
  | some (.long v) => some v
  | _ => none
/-- a reference that isn't null -/
def dA (K : KT) (ci k a : Nat) : Option Nat := match dV K ci k a with
  | some (.ref v) => some v
  | _ => none
def dQ (K : KT) (ci k a : Nat) : Option (Option Nat) := match dV K ci k a with
  | some (.ref v) => some (some v)
  | some .null => some none
  | _ => none
/-- an int field of a crossing of any class -/
def dX (K : KT) (k a : Nat) : Option Int32 := match K.1 a with
  | some (.inr o) => if 7 ≤ o.1 ∧ o.1 ≤ 10 then dI K o.1 k a else none
  | _ => none
/-- an object's class -/
def dC (K : KT) (a : Nat) : Option Nat := match K.1 a with
  | some (.inr o) => some o.1
  | _ => none
def uV (K : KT) (ci k a : Nat) (v : Value) : Option KT := match K.1 a with
  | some (.inr o) => if o.1 = ci ∧ k < o.2.length then some (mset K.1 a (.inr (ci, o.2.set k v)), K.2) else none
  | _ => none
def uX (K : KT) (k a : Nat) (v : Value) : Option KT := match K.1 a with
  | some (.inr o) => if 7 ≤ o.1 ∧ o.1 ≤ 10 then uV K o.1 k a v else none
  | _ => none
/-- a place of an array of kind t -/
def eI (K : KT) (t a : Nat) (i : Int32) : Option Int32 := match K.1 a with
  | some (.inl (t1, n, .inl f)) => if t1 = t ∧ ¬ (i < 0 ∨ n ≤ i.toNatClampNeg) then some (f i.toNatClampNeg) else none
  | _ => none
def eL (K : KT) (a : Nat) (i : Int32) : Option Int64 := match K.1 a with
  | some (.inl (t1, n, .inr (.inl f))) => if t1 = 3 ∧ ¬ (i < 0 ∨ n ≤ i.toNatClampNeg) then some (f i.toNatClampNeg) else none
  | _ => none
def eQ (K : KT) (t a : Nat) (i : Int32) : Option (Option Nat) := match K.1 a with
  | some (.inl (t1, n, .inr (.inr (.inr (.inr f))))) => if t1 = t ∧ ¬ (i < 0 ∨ n ≤ i.toNatClampNeg) then some (f i.toNatClampNeg) else none
  | _ => none
def eA (K : KT) (t a : Nat) (i : Int32) : Option Nat := (eQ K t a i).bind id
def wI (K : KT) (t a : Nat) (i v : Int32) : Option KT := match K.1 a with
  | some (.inl (t1, n, .inl f)) => if t1 = t ∧ ¬ (i < 0 ∨ n ≤ i.toNatClampNeg) then some (mset K.1 a (.inl (t, n, .inl (va_up f i.toNatClampNeg v))), K.2) else none
  | _ => none
def wL (K : KT) (a : Nat) (i : Int32) (v : Int64) : Option KT := match K.1 a with
  | some (.inl (t1, n, .inr (.inl f))) => if t1 = 3 ∧ ¬ (i < 0 ∨ n ≤ i.toNatClampNeg) then some (mset K.1 a (.inl (3, n, .inr (.inl (va_up f i.toNatClampNeg v)))), K.2) else none
  | _ => none
/-- which classes' objects an array of references of kind t may hold -/
def okc (t c : Nat) : Bool := (t == 4 && (c == 7 || c == 8 || c == 9 || c == 10)) || (t == 5 && c == 6) || (t == 6 && c == 11) || (t == 7 && c == 12) || (t == 8 && c == 4)
def wR (K : KT) (t a : Nat) (i : Int32) (v : Nat) : Option KT := match K.1 a, K.1 v with
  | some (.inl (t1, n, .inr (.inr (.inr (.inr f))))), some (.inr o) => if t1 = t ∧ ¬ (i < 0 ∨ n ≤ i.toNatClampNeg) ∧ okc t o.1 = true then some (mset K.1 a (.inl (t, n, .inr (.inr (.inr (.inr (va_up f i.toNatClampNeg (some v))))))), K.2) else none
  | _, _ => none
/-- an object made, an array made -/
def nO (K : KT) (ci : Nat) (fs : List Value) : KT := (mset K.1 K.2.1 (.inr (ci, fs)), K.2.1 + 1, K.2.2.1 - 1, K.2.2.2 - fs.length)
def nE (K : KT) (t : Nat) (x : vp_A) : KT := (mset K.1 K.2.1 (.inl (t, x)), K.2.1 + 1, K.2.2.1 - 1, K.2.2.2 - x.1)
def mkO (K : KT) (ci : Nat) (fs : List Value) : Option KT := if 1 ≤ K.2.2.1 ∧ fs.length ≤ K.2.2.2 then some (nO K ci fs) else none
def mkE (K : KT) (t : Nat) (x : vp_A) : Option KT := if 1 ≤ K.2.2.1 ∧ x.1 ≤ K.2.2.2 then some (nE K t x) else none
/-- a call has made cells, no more; has made none; an object is of a class -/
def gM (K K1 : KT) : Option Unit := if K1.2.2.1 ≤ K.2.2.1 ∧ K1.2.2.2 ≤ K.2.2.2 then some () else none
def gE (K K1 : KT) : Option Unit := if K1.2.2 = K.2.2 then some () else none
def gC (K : KT) (ci a : Nat) : Option Unit := if dC K a = some ci then some () else none
/-- the count of a walk: nc cells and ns slots made since K0 -/
def Cn (K0 K : KT) (nc ns : Nat) : Prop := nc + K.2.2.1 = K0.2.2.1 ∧ ns + K.2.2.2 = K0.2.2.2
theorem Cn.rf {K : KT} : Cn K K 0 0 := ⟨Nat.zero_add _, Nat.zero_add _⟩
theorem Cn.keep {K0 K K1 : KT} {nc ns : Nat} (h : Cn K0 K nc ns) (e : K1.2 = K.2) : Cn K0 K1 nc ns := by unfold Cn; rw [e]; exact h
theorem gE_some {K K1 : KT} {u : Unit} (h : gE K K1 = some u) : K1.2.2 = K.2.2 := (gd_some h).1
theorem Cn.sG {K0 K K1 : KT} {nc ns : Nat} {u : Unit} (h : Cn K0 K nc ns) (e : gE K K1 = some u) : Cn K0 K1 nc ns := by unfold Cn; rw [gE_some e]; exact h
theorem gM_some {K K1 : KT} {u : Unit} (h : gM K K1 = some u) : K1.2.2.1 ≤ K.2.2.1 ∧ K1.2.2.2 ≤ K.2.2.2 := (gd_some h).1
theorem Cn.sM {K0 K K1 : KT} {nc ns : Nat} {u : Unit} (h : Cn K0 K nc ns) (e : gM K K1 = some u) : Cn K0 K1 (nc + (K.2.2.1 - K1.2.2.1)) (ns + (K.2.2.2 - K1.2.2.2)) := by
  have := gM_some e
  exact ⟨by have := h.1; omega, by have := h.2; omega⟩
theorem mkO_some {K K1 : KT} {ci : Nat} {fs : List Value} (h : mkO K ci fs = some K1) : 1 ≤ K.2.2.1 ∧ fs.length ≤ K.2.2.2 ∧ K1 = nO K ci fs := by
  obtain ⟨h1, h2⟩ := gd_some h
  exact ⟨h1.1, h1.2, (Option.some.inj h2).symm⟩
theorem mkE_some {K K1 : KT} {t : Nat} {x : vp_A} (h : mkE K t x = some K1) : 1 ≤ K.2.2.1 ∧ x.1 ≤ K.2.2.2 ∧ K1 = nE K t x := by
  obtain ⟨h1, h2⟩ := gd_some h
  exact ⟨h1.1, h1.2, (Option.some.inj h2).symm⟩
theorem Cn.sO {K0 K K1 : KT} {nc ns ci : Nat} {fs : List Value} (h : Cn K0 K nc ns) (e : mkO K ci fs = some K1) : Cn K0 K1 (nc + 1) (ns + fs.length) := by
  obtain ⟨h1, h2, rfl⟩ := mkO_some e
  exact ⟨by have := h.1; show nc + 1 + (K.2.2.1 - 1) = _; omega, by have := h.2; show ns + fs.length + (K.2.2.2 - fs.length) = _; omega⟩
theorem Cn.sE {K0 K K1 : KT} {nc ns t : Nat} {x : vp_A} (h : Cn K0 K nc ns) (e : mkE K t x = some K1) : Cn K0 K1 (nc + 1) (ns + x.1) := by
  obtain ⟨h1, h2, rfl⟩ := mkE_some e
  exact ⟨by have := h.1; show nc + 1 + (K.2.2.1 - 1) = _; omega, by have := h.2; show ns + x.1 + (K.2.2.2 - x.1) = _; omega⟩
theorem Cn.roomO {K0 K K1 : KT} {nc ns ci : Nat} {fs : List Value} (h : Cn K0 K nc ns) (e : mkO K ci fs = some K1) : nc + 1 ≤ K0.2.2.1 ∧ ns + fs.length ≤ K0.2.2.2 := by
  obtain ⟨h1, h2, -⟩ := mkO_some e
  exact ⟨by have := h.1; omega, by have := h.2; omega⟩
theorem Cn.roomE {K0 K K1 : KT} {nc ns t : Nat} {x : vp_A} (h : Cn K0 K nc ns) (e : mkE K t x = some K1) : nc + 1 ≤ K0.2.2.1 ∧ ns + x.1 ≤ K0.2.2.2 := by
  obtain ⟨h1, h2, -⟩ := mkE_some e
  exact ⟨by have := h.1; omega, by have := h.2; omega⟩
theorem Cn.roomC {K0 K : KT} {nc ns : Nat} (h : Cn K0 K nc ns) : nc + K.2.2.1 ≤ K0.2.2.1 ∧ ns + K.2.2.2 ≤ K0.2.2.2 := ⟨Nat.le_of_eq h.1, Nat.le_of_eq h.2⟩
theorem Cn.end_ {K0 K : KT} {nc ns : Nat} (h : Cn K0 K nc ns) : nc = K0.2.2.1 - K.2.2.1 ∧ ns = K0.2.2.2 - K.2.2.2 := ⟨by have := h.1; omega, by have := h.2; omega⟩
theorem gC_some {K : KT} {ci a : Nat} {u : Unit} (h : gC K ci a = some u) : dC K a = some ci := (gd_some h).1
theorem dV_some {K : KT} {ci k a : Nat} {v : Value} (h : dV K ci k a = some v) : ∃ fs, K.1 a = some (.inr (ci, fs)) ∧ fs[k]? = some v := by
  unfold dV at h
  split at h
  · rename_i o e
    obtain ⟨h1, h2⟩ := gd_some h
    exact ⟨o.2, by rw [e, ← h1], h2⟩
  · cases h
theorem dI_some {K : KT} {ci k a : Nat} {v : Int32} (h : dI K ci k a = some v) : ∃ fs, K.1 a = some (.inr (ci, fs)) ∧ fs[k]? = some (.int v) := by
  unfold dI at h
  split at h
  · rename_i w e; cases h; exact dV_some e
  · cases h
theorem dL_some {K : KT} {ci k a : Nat} {v : Int64} (h : dL K ci k a = some v) : ∃ fs, K.1 a = some (.inr (ci, fs)) ∧ fs[k]? = some (.long v) := by
  unfold dL at h
  split at h
  · rename_i w e; cases h; exact dV_some e
  · cases h
theorem dA_some {K : KT} {ci k a v : Nat} (h : dA K ci k a = some v) : ∃ fs, K.1 a = some (.inr (ci, fs)) ∧ fs[k]? = some (.ref v) := by
  unfold dA at h
  split at h
  · rename_i w e; cases h; exact dV_some e
  · cases h
theorem dQ_some {K : KT} {ci k a : Nat} {v : Option Nat} (h : dQ K ci k a = some v) : ∃ fs, K.1 a = some (.inr (ci, fs)) ∧ fs[k]? = some (va_rf v) := by
  unfold dQ at h
  split at h
  · rename_i w e; cases h; exact dV_some e
  · rename_i e; cases h; exact dV_some e
  · cases h
theorem c4 {c : Nat} (h : 7 ≤ c ∧ c ≤ 10) : c = 7 ∨ c = 8 ∨ c = 9 ∨ c = 10 := by omega
theorem dX_some {K : KT} {k a : Nat} {v : Int32} (h : dX K k a = some v) : ∃ ci fs, (ci = 7 ∨ ci = 8 ∨ ci = 9 ∨ ci = 10) ∧ K.1 a = some (.inr (ci, fs)) ∧ fs[k]? = some (.int v) := by
  unfold dX at h
  split at h
  · rename_i o e
    obtain ⟨h1, h2⟩ := gd_some h
    obtain ⟨fs, h3, h4⟩ := dI_some h2
    exact ⟨o.1, fs, c4 h1, h3, h4⟩
  · cases h
theorem dC_some {K : KT} {a c : Nat} (h : dC K a = some c) : ∃ fs, K.1 a = some (.inr (c, fs)) := by
  unfold dC at h
  split at h
  · rename_i o e; cases h; exact ⟨o.2, e⟩
  · cases h
theorem uV_some {K K1 : KT} {ci k a : Nat} {v : Value} (h : uV K ci k a v = some K1) : ∃ fs, K.1 a = some (.inr (ci, fs)) ∧ k < fs.length ∧ K1 = (mset K.1 a (.inr (ci, fs.set k v)), K.2) := by
  unfold uV at h
  split at h
  · rename_i o e
    obtain ⟨h1, h2⟩ := gd_some h
    exact ⟨o.2, by rw [e, ← h1.1], h1.2, (Option.some.inj h2).symm⟩
  · cases h
theorem uX_some {K K1 : KT} {k a : Nat} {v : Value} (h : uX K k a v = some K1) : ∃ ci fs, (ci = 7 ∨ ci = 8 ∨ ci = 9 ∨ ci = 10) ∧ K.1 a = some (.inr (ci, fs)) ∧ k < fs.length ∧ K1 = (mset K.1 a (.inr (ci, fs.set k v)), K.2) := by
  unfold uX at h
  split at h
  · rename_i o e
    obtain ⟨h1, h2⟩ := gd_some h
    obtain ⟨fs, h3, h4, h5⟩ := uV_some h2
    exact ⟨o.1, fs, c4 h1, h3, h4, h5⟩
  · cases h
theorem eI_some {K : KT} {t a : Nat} {i v : Int32} (h : eI K t a i = some v) : ∃ n f, K.1 a = some (.inl (t, n, .inl f)) ∧ vp_in i n ∧ f i.toNatClampNeg = v := by
  unfold eI at h
  split at h
  · rename_i t1 n f e
    obtain ⟨h1, h2⟩ := gd_some h
    exact ⟨n, f, by rw [e, h1.1], h1.2, Option.some.inj h2⟩
  · cases h
theorem eL_some {K : KT} {a : Nat} {i : Int32} {v : Int64} (h : eL K a i = some v) : ∃ n f, K.1 a = some (.inl (3, n, .inr (.inl f))) ∧ vp_in i n ∧ f i.toNatClampNeg = v := by
  unfold eL at h
  split at h
  · rename_i t1 n f e
    obtain ⟨h1, h2⟩ := gd_some h
    exact ⟨n, f, by rw [e, h1.1], h1.2, Option.some.inj h2⟩
  · cases h
theorem eQ_some {K : KT} {t a : Nat} {i : Int32} {v : Option Nat} (h : eQ K t a i = some v) : ∃ n f, K.1 a = some (.inl (t, n, .inr (.inr (.inr (.inr f))))) ∧ vp_in i n ∧ f i.toNatClampNeg = v := by
  unfold eQ at h
  split at h
  · rename_i t1 n f e
    obtain ⟨h1, h2⟩ := gd_some h
    exact ⟨n, f, by rw [e, h1.1], h1.2, Option.some.inj h2⟩
  · cases h
theorem eA_some {K : KT} {t a : Nat} {i : Int32} {v : Nat} (h : eA K t a i = some v) : eQ K t a i = some (some v) := by
  obtain ⟨x, h1, h2⟩ := Option.bind_eq_some_iff.mp h
  rw [h1]; exact congrArg some h2
theorem wI_some {K K1 : KT} {t a : Nat} {i v : Int32} (h : wI K t a i v = some K1) : ∃ n f, K.1 a = some (.inl (t, n, .inl f)) ∧ vp_in i n ∧ K1 = (mset K.1 a (.inl (t, n, .inl (va_up f i.toNatClampNeg v))), K.2) := by
  unfold wI at h
  split at h
  · rename_i t1 n f e
    obtain ⟨h1, h2⟩ := gd_some h
    exact ⟨n, f, by rw [e, h1.1], h1.2, (Option.some.inj h2).symm⟩
  · cases h
theorem wL_some {K K1 : KT} {a : Nat} {i : Int32} {v : Int64} (h : wL K a i v = some K1) : ∃ n f, K.1 a = some (.inl (3, n, .inr (.inl f))) ∧ vp_in i n ∧ K1 = (mset K.1 a (.inl (3, n, .inr (.inl (va_up f i.toNatClampNeg v)))), K.2) := by
  unfold wL at h
  split at h
  · rename_i t1 n f e
    obtain ⟨h1, h2⟩ := gd_some h
    exact ⟨n, f, by rw [e, h1.1], h1.2, (Option.some.inj h2).symm⟩
  · cases h
theorem wR_some {K K1 : KT} {t a v : Nat} {i : Int32} (h : wR K t a i v = some K1) : ∃ n f o, K.1 a = some (.inl (t, n, .inr (.inr (.inr (.inr f))))) ∧ K.1 v = some (.inr o) ∧ vp_in i n ∧ okc t o.1 = true ∧ K1 = (mset K.1 a (.inl (t, n, .inr (.inr (.inr (.inr (va_up f i.toNatClampNeg (some v))))))), K.2) := by
  unfold wR at h
  split at h
  · rename_i t1 n f o e e2
    obtain ⟨h1, h2⟩ := gd_some h
    exact ⟨n, f, o, by rw [e, h1.1], e2, h1.2.1, h1.2.2, (Option.some.inj h2).symm⟩
  · cases h
theorem ke_uV {K K1 : KT} {ci k a : Nat} {v : Value} (h : uV K ci k a v = some K1) : K1.2 = K.2 := by obtain ⟨_, _, _, e⟩ := uV_some h; rw [e]
theorem ke_uX {K K1 : KT} {k a : Nat} {v : Value} (h : uX K k a v = some K1) : K1.2 = K.2 := by obtain ⟨_, _, _, _, _, e⟩ := uX_some h; rw [e]
theorem ke_wI {K K1 : KT} {t a : Nat} {i v : Int32} (h : wI K t a i v = some K1) : K1.2 = K.2 := by obtain ⟨_, _, _, _, e⟩ := wI_some h; rw [e]
theorem ke_wL {K K1 : KT} {a : Nat} {i : Int32} {v : Int64} (h : wL K a i v = some K1) : K1.2 = K.2 := by obtain ⟨_, _, _, _, e⟩ := wL_some h; rw [e]
theorem ke_wR {K K1 : KT} {t a v : Nat} {i : Int32} (h : wR K t a i v = some K1) : K1.2 = K.2 := by obtain ⟨_, _, _, _, _, _, _, e⟩ := wR_some h; rw [e]
/-- what a place of a copied row holds: nothing, or an object of a class that the row takes -/
def okE (K : KT) (t : Nat) (v : Option Nat) : Bool := match v with
  | none => true
  | some a => match K.1 a with
    | some (.inr o) => okc t o.1
    | _ => false
/-- System.arraycopy of references, of ints, of longs -/
def cpQ (K : KT) (t a0 : Nat) (sp : Int32) (a : Nat) (dp n : Int32) : Option KT := match K.1 a0, K.1 a with
  | some (.inl (t0, n0, .inr (.inr (.inr (.inr f))))), some (.inl (t1, n1, .inr (.inr (.inr (.inr g))))) =>
    if t0 = t ∧ t1 = t ∧ ¬ sp < 0 ∧ ¬ dp < 0 ∧ ¬ n < 0 ∧ sp.toNatClampNeg + n.toNatClampNeg ≤ n0 ∧ dp.toNatClampNeg + n.toNatClampNeg ≤ n1 ∧ ((List.range n.toNatClampNeg).all fun i => okE K t (f (sp.toNatClampNeg + i))) = true then some (mset K.1 a (.inl (t, n1, .inr (.inr (.inr (.inr (va_cpy f g sp.toNatClampNeg dp.toNatClampNeg n.toNatClampNeg)))))), K.2) else none
  | _, _ => none
def cpI (K : KT) (a0 : Nat) (sp : Int32) (a : Nat) (dp n : Int32) : Option KT := match K.1 a0, K.1 a with
  | some (.inl (t0, n0, .inl f)), some (.inl (t1, n1, .inl g)) =>
    if t0 = 2 ∧ t1 = 2 ∧ ¬ sp < 0 ∧ ¬ dp < 0 ∧ ¬ n < 0 ∧ sp.toNatClampNeg + n.toNatClampNeg ≤ n0 ∧ dp.toNatClampNeg + n.toNatClampNeg ≤ n1 then some (mset K.1 a (.inl (2, n1, .inl (va_cpy f g sp.toNatClampNeg dp.toNatClampNeg n.toNatClampNeg))), K.2) else none
  | _, _ => none
def cpL (K : KT) (a0 : Nat) (sp : Int32) (a : Nat) (dp n : Int32) : Option KT := match K.1 a0, K.1 a with
  | some (.inl (t0, n0, .inr (.inl f))), some (.inl (t1, n1, .inr (.inl g))) =>
    if t0 = 3 ∧ t1 = 3 ∧ ¬ sp < 0 ∧ ¬ dp < 0 ∧ ¬ n < 0 ∧ sp.toNatClampNeg + n.toNatClampNeg ≤ n0 ∧ dp.toNatClampNeg + n.toNatClampNeg ≤ n1 then some (mset K.1 a (.inl (3, n1, .inr (.inl (va_cpy f g sp.toNatClampNeg dp.toNatClampNeg n.toNatClampNeg)))), K.2) else none
  | _, _ => none
theorem cpQ_some {K K1 : KT} {t a0 a : Nat} {sp dp n : Int32} (h : cpQ K t a0 sp a dp n = some K1) : ∃ n0 n1 f g, K.1 a0 = some (.inl (t, n0, .inr (.inr (.inr (.inr f))))) ∧ K.1 a = some (.inl (t, n1, .inr (.inr (.inr (.inr g))))) ∧ (¬ sp < 0 ∧ ¬ dp < 0 ∧ ¬ n < 0 ∧ sp.toNatClampNeg + n.toNatClampNeg ≤ n0 ∧ dp.toNatClampNeg + n.toNatClampNeg ≤ n1) ∧ (∀ i, i < n.toNatClampNeg → okE K t (f (sp.toNatClampNeg + i)) = true) ∧ K1 = (mset K.1 a (.inl (t, n1, .inr (.inr (.inr (.inr (va_cpy f g sp.toNatClampNeg dp.toNatClampNeg n.toNatClampNeg)))))), K.2) := by
  unfold cpQ at h
  split at h
  · rename_i t0 n0 f t1 n1 g e0 e1
    obtain ⟨⟨h0, h1, h2, h3, h4, h5, h6, h7⟩, h8⟩ := gd_some h
    exact ⟨n0, n1, f, g, by rw [e0, h0], by rw [e1, h1], ⟨h2, h3, h4, h5, h6⟩, fun i hi => List.all_eq_true.mp h7 i (List.mem_range.mpr hi), (Option.some.inj h8).symm⟩
  · cases h
theorem cpI_some {K K1 : KT} {a0 a : Nat} {sp dp n : Int32} (h : cpI K a0 sp a dp n = some K1) : ∃ n0 n1 f g, K.1 a0 = some (.inl (2, n0, .inl f)) ∧ K.1 a = some (.inl (2, n1, .inl g)) ∧ (¬ sp < 0 ∧ ¬ dp < 0 ∧ ¬ n < 0 ∧ sp.toNatClampNeg + n.toNatClampNeg ≤ n0 ∧ dp.toNatClampNeg + n.toNatClampNeg ≤ n1) ∧ K1 = (mset K.1 a (.inl (2, n1, .inl (va_cpy f g sp.toNatClampNeg dp.toNatClampNeg n.toNatClampNeg))), K.2) := by
  unfold cpI at h
  split at h
  · rename_i t0 n0 f t1 n1 g e0 e1
    obtain ⟨⟨h0, h1, h2, h3, h4, h5, h6⟩, h8⟩ := gd_some h
    exact ⟨n0, n1, f, g, by rw [e0, h0], by rw [e1, h1], ⟨h2, h3, h4, h5, h6⟩, (Option.some.inj h8).symm⟩
  · cases h
theorem cpL_some {K K1 : KT} {a0 a : Nat} {sp dp n : Int32} (h : cpL K a0 sp a dp n = some K1) : ∃ n0 n1 f g, K.1 a0 = some (.inl (3, n0, .inr (.inl f))) ∧ K.1 a = some (.inl (3, n1, .inr (.inl g))) ∧ (¬ sp < 0 ∧ ¬ dp < 0 ∧ ¬ n < 0 ∧ sp.toNatClampNeg + n.toNatClampNeg ≤ n0 ∧ dp.toNatClampNeg + n.toNatClampNeg ≤ n1) ∧ K1 = (mset K.1 a (.inl (3, n1, .inr (.inl (va_cpy f g sp.toNatClampNeg dp.toNatClampNeg n.toNatClampNeg)))), K.2) := by
  unfold cpL at h
  split at h
  · rename_i t0 n0 f t1 n1 g e0 e1
    obtain ⟨⟨h0, h1, h2, h3, h4, h5, h6⟩, h8⟩ := gd_some h
    exact ⟨n0, n1, f, g, by rw [e0, h0], by rw [e1, h1], ⟨h2, h3, h4, h5, h6⟩, (Option.some.inj h8).symm⟩
  · cases h
theorem ke_cpQ {K K1 : KT} {t a0 a : Nat} {sp dp n : Int32} (h : cpQ K t a0 sp a dp n = some K1) : K1.2 = K.2 := by obtain ⟨_, _, _, _, _, _, _, _, e⟩ := cpQ_some h; rw [e]
theorem ke_cpI {K K1 : KT} {a0 a : Nat} {sp dp n : Int32} (h : cpI K a0 sp a dp n = some K1) : K1.2 = K.2 := by obtain ⟨_, _, _, _, _, _, _, e⟩ := cpI_some h; rw [e]
theorem ke_cpL {K K1 : KT} {a0 a : Nat} {sp dp n : Int32} (h : cpL K a0 sp a dp n = some K1) : K1.2 = K.2 := by obtain ⟨_, _, _, _, _, _, _, e⟩ := cpL_some h; rw [e]
/-- System.arraycopy of ints between two of the fixed cells' rows -/
def cpF (C : FS) (k0 n0 : Nat) (sp : Int32) (k1 n1 : Nat) (dp n : Int32) : Option FS := if ¬ sp < 0 ∧ ¬ dp < 0 ∧ ¬ n < 0 ∧ sp.toNatClampNeg + n.toNatClampNeg ≤ n0 ∧ dp.toNatClampNeg + n.toNatClampNeg ≤ n1 then some (C.1, C.2.1, C.2.2.1, va_up C.2.2.2.1 k1 (va_cpy (C.2.2.2.1 k0) (C.2.2.2.1 k1) sp.toNatClampNeg dp.toNatClampNeg n.toNatClampNeg), C.2.2.2.2) else none
