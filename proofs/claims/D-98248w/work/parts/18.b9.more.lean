/-! MORE ROWS: counts at an end, nullable references, switches -/
section B9
variable {p : Program} {l : Launch} {e : Env} {R : Room} {s : State} {m : MethodId} {args : Array Value} {below : List Frame} {meth : Method} {c : Code} {H : Heap} {locs : List Loc} {cells slots cells' slots' : Nat} {Q : State → Prop} {g : JFrame}
variable {cc : ByteArray} {pc : Nat} {ls : Array Slot} {rest : List Value}
theorem w_cast (h1 : cells = cells') (h2 : slots = slots') (k : W p l e R s m args below meth c H locs cells' slots' Q g) : W p l e R s m args below meth c H locs cells slots Q g := by
  subst h1; subst h2; exact k
theorem Cn.le {K0 K : KT} {nc ns : Nat} (h : Cn K0 K nc ns) : nc ≤ K0.2.2.1 ∧ ns ≤ K0.2.2.2 := ⟨by have := h.1; omega, by have := h.2; omega⟩
theorem lv_qload_n (hexec : p.tables.exec = Jvm.exec) (hb : c.code = cc) {i : Fin 4} {j : Nat} {v : Option Nat} (hdg : decode cc pc = .ok (.aload_n i, 1)) (hij : (i : Nat) = j) (hv : ls[j]? = some (.val (va_rf v))) (k : W p l e R s m args below meth c H locs cells slots Q (F0 m (pc + 1) ls (va_rf v :: rest))) : W p l e R s m args below meth c H locs cells slots Q (F0 m pc ls rest) := by
  cases v with
  | none => exact lv_aload_nN hexec hb hdg hij hv k
  | some x => exact lv_aload_n hexec hb hdg hij hv k
theorem lv_qnull (hexec : p.tables.exec = Jvm.exec) (hb : c.code = cc) {v : Option Nat} {off : Int} {tgt : Nat} (hdg : decode cc pc = .ok (.ifnull off, 3)) (ht : (pc : Int) + off = (tgt : Int)) (k1 : v = none → W p l e R s m args below meth c H locs cells slots Q (F0 m tgt ls rest)) (k2 : ¬ v = none → W p l e R s m args below meth c H locs cells slots Q (F0 m (pc + 3) ls rest)) : W p l e R s m args below meth c H locs cells slots Q (F0 m pc ls (va_rf v :: rest)) := by
  cases v with
  | none => exact lv_ifnullN hexec hb hdg ht (k1 rfl)
  | some x => exact lv_ifnull hexec hb hdg (k2 (fun h => by cases h))
theorem lv_qnonnull (hexec : p.tables.exec = Jvm.exec) (hb : c.code = cc) {v : Option Nat} {off : Int} {tgt : Nat} (hdg : decode cc pc = .ok (.ifnonnull off, 3)) (ht : (pc : Int) + off = (tgt : Int)) (k1 : ¬ v = none → W p l e R s m args below meth c H locs cells slots Q (F0 m tgt ls rest)) (k2 : v = none → W p l e R s m args below meth c H locs cells slots Q (F0 m (pc + 3) ls rest)) : W p l e R s m args below meth c H locs cells slots Q (F0 m pc ls (va_rf v :: rest)) := by
  cases v with
  | none => exact lv_ifnonnullN hexec hb hdg (k2 rfl)
  | some x => exact lv_ifnonnull hexec hb hdg ht (k1 (fun h => by cases h))
theorem as129 {nL : Nat} {own : String} {G : GT} {M C C1 : FS} {K : AH × Nat} {v : Nat} {vs : List Value} {i : Int32} (FX : CallFix p m c cc nL s args lw_all own) (hw : WS G (M, C, K) s H locs) (he : emb G.2.2.2 (M, C, K) v = some (.inr (12, vs))) (hv : wQ C 129 3 i (some v) = some C1) (d : decode cc pc = .ok (.aastore, 1))
    (kk : ∀ (H1 : Heap) (locs1 : List Loc), WS G (M, C1, K) s H1 locs1 → W p l e R s m args below meth c H1 locs1 cells slots Q (F0 m (pc + 1) ls rest)) : W p l e R s m args below meth c H locs cells slots Q (F0 m pc ls (.ref v :: .int i :: .ref (G.2.2.2 129) :: rest)) := by
  obtain ⟨hi, rfl⟩ := wQ_some hv
  exact fx_qast (S' := (M, sQ C 129 i.toNatClampNeg (some v), K)) (k := 129) (t := 7) (n := 3) (ci := 12) FX hw (by decide) (by decide) rfl he rfl hi rfl (comc_Q (M := M) (C := C) (by decide)) d kk
theorem as100 {nL : Nat} {own : String} {G : GT} {M C C1 : FS} {K : AH × Nat} {v : Nat} {vs : List Value} {i : Int32} (FX : CallFix p m c cc nL s args lw_all own) (hw : WS G (M, C, K) s H locs) (he : emb G.2.2.2 (M, C, K) v = some (.inr (4, vs))) (hv : wQ C 100 4 i (some v) = some C1) (d : decode cc pc = .ok (.aastore, 1))
    (kk : ∀ (H1 : Heap) (locs1 : List Loc), WS G (M, C1, K) s H1 locs1 → W p l e R s m args below meth c H1 locs1 cells slots Q (F0 m (pc + 1) ls rest)) : W p l e R s m args below meth c H locs cells slots Q (F0 m pc ls (.ref v :: .int i :: .ref (G.2.2.2 100) :: rest)) := by
  obtain ⟨hi, rfl⟩ := wQ_some hv
  exact fx_qast (S' := (M, sQ C 100 i.toNatClampNeg (some v), K)) (k := 100) (t := 8) (n := 4) (ci := 4) FX hw (by decide) (by decide) rfl he rfl hi rfl (comc_Q (M := M) (C := C) (by decide)) d kk
end B9
theorem sw_out {x a b : Int32} {lo hi : Int} (ha : a.toInt = lo) (hb : b.toInt = hi) (h : x < a ∨ b < x) : x.toInt < lo ∨ hi < x.toInt := by
  subst ha; subst hb
  rcases h with h | h
  · exact Or.inl (Int32.lt_iff_toInt_lt.mp h)
  · exact Or.inr (Int32.lt_iff_toInt_lt.mp h)
def ushr (x y : Int32) : Int32 := (x.toUInt32 >>> (y.toUInt32 &&& Int32.toUInt32 31)).toInt32
/-- a value by a crossing's class -/
def vT (x7 x8 x9 x10 : Int32) (K : KT) (a : Nat) : Option Int32 := (dC K a).bind fun c => if c = 7 then some x7 else if c = 8 then some x8 else if c = 9 then some x9 else if c = 10 then some x10 else none
theorem vT_some {x7 x8 x9 x10 v : Int32} {K : KT} {a : Nat} (h : vT x7 x8 x9 x10 K a = some v) : ∃ ci fs, K.1 a = some (.inr (ci, fs)) ∧ ((ci = 7 ∧ v = x7) ∨ (ci = 8 ∧ v = x8) ∨ (ci = 9 ∧ v = x9) ∨ (ci = 10 ∧ v = x10)) := by
  obtain ⟨c, h1, h2⟩ := Option.bind_eq_some_iff.mp h
  obtain ⟨fs, h3⟩ := dC_some h1
  refine ⟨c, fs, h3, ?_⟩
  by_cases c7 : c = 7
  · rw [if_pos c7] at h2; exact Or.inl ⟨c7, (Option.some.inj h2).symm⟩
  rw [if_neg c7] at h2
  by_cases c8 : c = 8
  · rw [if_pos c8] at h2; exact Or.inr (Or.inl ⟨c8, (Option.some.inj h2).symm⟩)
  rw [if_neg c8] at h2
  by_cases c9 : c = 9
  · rw [if_pos c9] at h2; exact Or.inr (Or.inr (Or.inl ⟨c9, (Option.some.inj h2).symm⟩))
  rw [if_neg c9] at h2
  by_cases c10 : c = 10
  · rw [if_pos c10] at h2; exact Or.inr (Or.inr (Or.inr ⟨c10, (Option.some.inj h2).symm⟩))
  rw [if_neg c10] at h2; cases h2
def vState (K : KT) (a : Nat) : Option Int32 := vT 0 1 2 3 K a
def vSeconds (K : KT) (a : Nat) : Option Int32 := vT 1 3 6 15 K a
def vLoosened (K : KT) (a : Nat) : Option Int32 := vT (-1) 0 1 3 K a
def vPulled (K : KT) (a : Nat) : Option Int32 := vT (-1) 2 3 3 K a
def vHolds (K : KT) (a : Nat) : Option Int32 := vT 0 1 1 1 K a
def vX (K : KT) (a : Nat) (r : Option Int32) : Option Int32 := (dC K a).bind fun c => if 7 ≤ c ∧ c ≤ 10 then r else none
theorem vX_some {K : KT} {a : Nat} {r : Option Int32} {v : Int32} (h : vX K a r = some v) : ∃ ci fs, K.1 a = some (.inr (ci, fs)) ∧ (ci = 7 ∨ ci = 8 ∨ ci = 9 ∨ ci = 10) ∧ r = some v := by
  obtain ⟨c, h1, h2⟩ := Option.bind_eq_some_iff.mp h
  obtain ⟨fs, h3⟩ := dC_some h1
  obtain ⟨h4, h5⟩ := gd_some h2
  exact ⟨c, fs, h3, c4 h4, h5⟩
