/-! ROWS over the world as a map -/
section B3
variable {p : Program} {l : Launch} {e : Env} {R : Room} {s : State} {m : MethodId} {args : Array Value} {below : List Frame} {meth : Method} {c : Code} {H : Heap} {locs : List Loc} {cells slots : Nat} {Q : State → Prop}
variable {cc : ByteArray} {nL : Nat} {own : String} {pc : Nat} {ls : Array Slot} {rest : List Value} {G : GT} {h : AH} {nx : Nat} {a : Nat}
theorem ar_get (FX : CallFix p m c cc nL s args lw_all own) (hw : Ws G h nx s H locs) {ref C : String} {T : u_T} {N ci index : Nat} (hin : ∀ w ∈ u_ws C T N, w ∈ lw_all) {fs : List Value} (he : h a = some (.inr (ci, fs))) (hc : vwCl[ci]? = some (C, T, N)) (k : Nat) (hk : k < N) (hlink : (Cond.fieldLink own index ref (T k).2.1 (T k).2.2.1).before args s = true) (hsame : ∀ x, s.fieldFound? (T k).1 (T k).2.1 (T k).2.2.1 = some x → s.fieldFound? ref (T k).2.1 (T k).2.2.1 = some x) {v : Value} (hv : fs[k]? = some v) (d : decode cc pc = .ok (.getfield index, 3))
    (kk : W p l e R s m args below meth c H locs cells slots Q (F0 m (pc + 3) ls (v :: rest))) : W p l e R s m args below meth c H locs cells slots Q (F0 m pc ls (.ref a :: rest)) :=
  va_get FX.1 FX.2.1 FX.2.2.2.2 hin FX.2.2.2.1 hw.1.2.1.1 (hw.1.1.one he) 0 rfl hc k hk hlink hsame hv d kk
theorem ar_getN (FX : CallFix p m c cc nL s args lw_all own) (hw : Ws G h nx s H locs) {ref C host : String} {T : u_T} {N ci index : Nat} (hin : ∀ w ∈ u_ws C T N, w ∈ lw_all) {fs : List Value} (he : h a = some (.inr (ci, fs))) (hc : vwCl[ci]? = some (C, T, N)) (k : Nat) (hk : k < N) (hq : (own, index, ref, (T k).2.1, (T k).2.2.1, host) ∈ nwF) (hsame : ∀ x, s.fieldFound? (T k).1 (T k).2.1 (T k).2.2.1 = some x → s.fieldFound? ref (T k).2.1 (T k).2.2.1 = some x) {v : Value} (hv : fs[k]? = some v) (d : decode cc pc = .ok (.getfield index, 3))
    (kk : W p l e R s m args below meth c H locs cells slots Q (F0 m (pc + 3) ls (v :: rest))) : W p l e R s m args below meth c H locs cells slots Q (F0 m pc ls (.ref a :: rest)) :=
  va_getN FX.1 FX.2.1 FX.2.2.2.2 hin FX.2.2.2.1 hw.1.2.1.1 (hw.1.1.one he) 0 rfl hc k hk (va_Nw.use rfl (hw.1.2.1.2.1 _ hq)) hsame hv d kk
/-- what a field's store needs of the class: the fields apart, the field's slot free to hold the value -/
theorem ar_cell (FX : CallFix p m c cc nL s args lw_all own) (hw : Ws G h nx s H locs) {C : String} {T : u_T} {N ci : Nat} (hin : ∀ w ∈ u_ws C T N, w ∈ lw_all) (ty0 : Nat → FieldType) (hty : ∀ k, k < N → parseFieldDescriptor (T k).2.2.1 = some (ty0 k)) (hnm : ∀ a, a < N → ∀ b, b < N → a ≠ b → (T a).2.1 ≠ (T b).2.1) {fs : List Value} (he : h a = some (.inr (ci, fs))) (hc : vwCl[ci]? = some (C, T, N)) {k : Nat} (hk : k < N) {v : Value} (hn : narrow (ty0 k) v = v) (hfit : fits (ty0 k) v = true) (hl : k < fs.length) :
    ∃ (cell : Cell) (cf : ClassId) (kf : Class) (fi : Nat) (f : Field), H[a]? = some cell ∧ cell.vm = .none ∧ s.fieldFound? (T k).1 (T k).2.1 (T k).2.2.1 = some (cf, kf, fi, f) ∧ f.isStatic = false ∧ f.slot < cell.slots.size ∧ ((T k).2.2.2 = false → k2_Sd s f cell.cls v) ∧ ((T k).2.2.2 = true → narrow f.type v = v ∧ s.fitsSlot cell.cls .none f.slot v = true) ∧ ((T k).2.2.2 = true → s.vm.findClass (T k).1 = some m.cls → m.cls = cf) ∧ ∀ (H1 : Heap), H1[a]? = some (cell.setSlot f.slot v) → va_at G.1 vwCl (a, .inr (ci, fs.set k v)) H1 := by
  have hK := hw.1.2.1.1
  have hap := va_apart (own := own) (Ts := lw_all) FX.2.2.2.2 hin ty0 hty hnm hK hc
  obtain ⟨r, h1, cell, q1, q2, q3, q4⟩ := (hw.1.1.one he) 0 _ rfl
  have hr : r = (C, T, N) := Option.some.inj (h1.symm.trans hc)
  subst hr
  obtain ⟨hS, hfc, kC, hkC, hkind⟩ := hK.1 ci _ hc
  obtain ⟨cf, kf, fi, f, hi, hsl⟩ := hS k hk
  have hlay := FX.2.2.2.2 _ (hin _ (u_in_lay hk))
  have hst := (u_facts hfc hkC (u_lays FX.2.2.2.2 hin hk) hi).1
  refine ⟨cell, cf, kf, fi, f, q1, q3, hi, hst, by rw [hsl]; exact k2_hasslot (q4 k hk), fun hfin => ?_, fun hfin => ?_, fun hfin ho => ?_, fun H1 e1 => ?_⟩
  · unfold u_lay at hlay
    rw [if_neg (by rw [hfin]; decide)] at hlay
    rw [q2]
    exact u_store hfc hkC hkind hlay hi (hty k hk) hn hfit
  · unfold u_lay at hlay
    rw [if_pos hfin] at hlay
    rw [q2]
    exact u_fits hfc hkC hkind (Or.inr hlay) hi (hty k hk) hn hfit
  · unfold u_lay at hlay
    rw [if_pos hfin] at hlay
    obtain ⟨_, _, c', _, _, _, -, -, hf', -, -, -, hown2, -⟩ := Cond.laysFinal_spec hlay
    have e1 : c' = cf := by have := hi.symm.trans hf'; simp at this; exact this.1.symm
    rw [← e1]; exact Option.some.inj (ho.symm.trans hown2)
  · rw [hsl] at e1
    exact ⟨_, hc, t_OB.to (V := updV (vp_V fs) k v) ⟨_, e1, q2, q3, t_set q4 hap hk v⟩ (fun j _ => vp_updV_set hl v j)⟩
theorem ar_put (FX : CallFix p m c cc nL s args lw_all own) (hw : Ws G h nx s H locs) {ref C : String} {T : u_T} {N ci index : Nat} (hin : ∀ w ∈ u_ws C T N, w ∈ lw_all) (ty0 : Nat → FieldType) (hty : ∀ k, k < N → parseFieldDescriptor (T k).2.2.1 = some (ty0 k)) (hnm : ∀ a, a < N → ∀ b, b < N → a ≠ b → (T a).2.1 ≠ (T b).2.1) {fs : List Value} (he : h a = some (.inr (ci, fs))) (hc : vwCl[ci]? = some (C, T, N)) (k : Nat) (hk : k < N) (hlink : (Cond.fieldLink own index ref (T k).2.1 (T k).2.2.1).before args s = true) (hsame : ∀ x, s.fieldFound? (T k).1 (T k).2.1 (T k).2.2.1 = some x → s.fieldFound? ref (T k).2.1 (T k).2.2.1 = some x) (hfin : (T k).2.2.2 = false) {v : Value} (hn : narrow (ty0 k) v = v) (hfit : fits (ty0 k) v = true) (hl : k < fs.length) (d : decode cc pc = .ok (.putfield index, 3))
    (kk : ∀ (H1 : Heap) (locs1 : List Loc), Ws G (mset h a (.inr (ci, fs.set k v))) nx s H1 locs1 → W p l e R s m args below meth c H1 locs1 cells slots Q (F0 m (pc + 3) ls rest)) : W p l e R s m args below meth c H locs cells slots Q (F0 m pc ls (v :: .ref a :: rest)) := by
  obtain ⟨cell, cf, kf, fi, f, q1, q3, hi, hst, hlt, hS, -, -, hat⟩ := ar_cell FX hw hin ty0 hty hnm he hc hk hn hfit hl
  refine W.putK FX.1 FX.2.1 (f := f) ⟨FX.2.2.2.1, hlink, ⟨_, _, _, hsame _ hi⟩, hst⟩ (hS hfin) q1 q3 hlt rfl rfl d fun H' e1 e2 e3 => ?_
  exact kk H' _ (hw.put he (hat H' e1) e2 e3)
theorem ar_putN (FX : CallFix p m c cc nL s args lw_all own) (hw : Ws G h nx s H locs) {ref C host : String} {T : u_T} {N ci index : Nat} (hin : ∀ w ∈ u_ws C T N, w ∈ lw_all) (ty0 : Nat → FieldType) (hty : ∀ k, k < N → parseFieldDescriptor (T k).2.2.1 = some (ty0 k)) (hnm : ∀ a, a < N → ∀ b, b < N → a ≠ b → (T a).2.1 ≠ (T b).2.1) {fs : List Value} (he : h a = some (.inr (ci, fs))) (hc : vwCl[ci]? = some (C, T, N)) (k : Nat) (hk : k < N) (hq : (own, index, ref, (T k).2.1, (T k).2.2.1, host) ∈ nwF) (hsame : ∀ x, s.fieldFound? (T k).1 (T k).2.1 (T k).2.2.1 = some x → s.fieldFound? ref (T k).2.1 (T k).2.2.1 = some x) (hfin : (T k).2.2.2 = false) {v : Value} (hn : narrow (ty0 k) v = v) (hfit : fits (ty0 k) v = true) (hl : k < fs.length) (d : decode cc pc = .ok (.putfield index, 3))
    (kk : ∀ (H1 : Heap) (locs1 : List Loc), Ws G (mset h a (.inr (ci, fs.set k v))) nx s H1 locs1 → W p l e R s m args below meth c H1 locs1 cells slots Q (F0 m (pc + 3) ls rest)) : W p l e R s m args below meth c H locs cells slots Q (F0 m pc ls (v :: .ref a :: rest)) := by
  obtain ⟨cell, cf, kf, fi, f, q1, q3, hi, hst, hlt, hS, -, -, hat⟩ := ar_cell FX hw hin ty0 hty hnm he hc hk hn hfit hl
  refine va_WputK FX.1 FX.2.1 (f := f) FX.2.2.2.1 (va_Nw.use rfl (hw.1.2.1.2.1 _ hq)) (hsame _ hi) hst (hS hfin) q1 q3 hlt rfl rfl d fun H' e1 e2 e3 => ?_
  exact kk H' _ (hw.put he (hat H' e1) e2 e3)
theorem ar_putF (FX : CallFix p m c cc nL s args lw_all own) (hw : Ws G h nx s H locs) (hin2 : meth.name = "<init>") {ref C : String} {T : u_T} {N ci index : Nat} (hin : ∀ w ∈ u_ws C T N, w ∈ lw_all) (ty0 : Nat → FieldType) (hty : ∀ k, k < N → parseFieldDescriptor (T k).2.2.1 = some (ty0 k)) (hnm : ∀ a, a < N → ∀ b, b < N → a ≠ b → (T a).2.1 ≠ (T b).2.1) {fs : List Value} (he : h a = some (.inr (ci, fs))) (hc : vwCl[ci]? = some (C, T, N)) (k : Nat) (hk : k < N) (hlink : (Cond.fieldLink own index ref (T k).2.1 (T k).2.2.1).before args s = true) (hsame : ∀ x, s.fieldFound? (T k).1 (T k).2.1 (T k).2.2.1 = some x → s.fieldFound? ref (T k).2.1 (T k).2.2.1 = some x) (hfin : (T k).2.2.2 = true) (ho : (T k).1 = own) {v : Value} (hn : narrow (ty0 k) v = v) (hfit : fits (ty0 k) v = true) (hl : k < fs.length) (d : decode cc pc = .ok (.putfield index, 3))
    (kk : ∀ (H1 : Heap) (locs1 : List Loc), Ws G (mset h a (.inr (ci, fs.set k v))) nx s H1 locs1 → W p l e R s m args below meth c H1 locs1 cells slots Q (F0 m (pc + 3) ls rest)) : W p l e R s m args below meth c H locs cells slots Q (F0 m pc ls (v :: .ref a :: rest)) := by
  obtain ⟨cell, cf, kf, fi, f, q1, q3, hi, hst, hlt, -, hS, hcf, hat⟩ := ar_cell FX hw hin ty0 hty hnm he hc hk hn hfit hl
  refine W.putFinK FX.1 FX.2.1 FX.2.2.2.1 hlink (hsame _ hi) hst (hcf hfin (by rw [ho]; exact FX.2.2.2.1)) hin2 (hS hfin) q1 q3 hlt rfl rfl d fun H' e1 e2 e3 => ?_
  exact kk H' _ (hw.put he (hat H' e1) e2 e3)
/-! arrays -/
theorem ar_ald (FX : CallFix p m c cc nL s args lw_all own) (hw : Ws G h nx s H locs) {n : Nat} {f : Nat → Int32} (he : h a = some (.inl (2, n, .inl f))) {i : Int32} (hi : vp_in i n) (d : decode cc pc = .ok (.iaload, 1))
    (kk : W p l e R s m args below meth c H locs cells slots Q (F0 m (pc + 1) ls (.int (f i.toNatClampNeg) :: rest))) : W p l e R s m args below meth c H locs cells slots Q (F0 m pc ls (.int i :: .ref a :: rest)) :=
  va_iald FX.1 FX.2.1 hw.1.2.1.1 (hw.1.1.one he) 0 2 rfl rfl hi d kk
theorem ar_bald (FX : CallFix p m c cc nL s args lw_all own) (hw : Ws G h nx s H locs) {n : Nat} {f : Nat → Int32} (he : h a = some (.inl (0, n, .inl f))) {i : Int32} (hi : vp_in i n) (d : decode cc pc = .ok (.baload, 1))
    (kk : W p l e R s m args below meth c H locs cells slots Q (F0 m (pc + 1) ls (.int (f i.toNatClampNeg) :: rest))) : W p l e R s m args below meth c H locs cells slots Q (F0 m pc ls (.int i :: .ref a :: rest)) :=
  va_bald FX.1 FX.2.1 hw.1.2.1.1 (hw.1.1.one he) 0 0 rfl rfl hi d kk
theorem ar_sald (FX : CallFix p m c cc nL s args lw_all own) (hw : Ws G h nx s H locs) {n : Nat} {f : Nat → Int32} (he : h a = some (.inl (1, n, .inl f))) {i : Int32} (hi : vp_in i n) (d : decode cc pc = .ok (.saload, 1))
    (kk : W p l e R s m args below meth c H locs cells slots Q (F0 m (pc + 1) ls (.int (f i.toNatClampNeg) :: rest))) : W p l e R s m args below meth c H locs cells slots Q (F0 m pc ls (.int i :: .ref a :: rest)) :=
  va_sald FX.1 FX.2.1 hw.1.2.1.1 (hw.1.1.one he) 0 1 rfl rfl hi d kk
theorem ar_lald (FX : CallFix p m c cc nL s args lw_all own) (hw : Ws G h nx s H locs) {n : Nat} {f : Nat → Int64} (he : h a = some (.inl (3, n, .inr (.inl f)))) {i : Int32} (hi : vp_in i n) (d : decode cc pc = .ok (.laload, 1))
    (kk : W p l e R s m args below meth c H locs cells slots Q (F0 m (pc + 1) ls (.long (f i.toNatClampNeg) :: rest))) : W p l e R s m args below meth c H locs cells slots Q (F0 m pc ls (.int i :: .ref a :: rest)) :=
  va_lald FX.1 FX.2.1 hw.1.2.1.1 (hw.1.1.one he) 0 3 rfl rfl hi d kk
theorem ar_qald (FX : CallFix p m c cc nL s args lw_all own) (hw : Ws G h nx s H locs) {n t : Nat} {C : String} {f : Nat → Option Nat} (he : h a = some (.inl (t, n, .inr (.inr (.inr (.inr f)))))) (ht : (tyl G.2.1)[t]? = some (G.2.1 t, .object C)) {i : Int32} (hi : vp_in i n) (d : decode cc pc = .ok (.aaload, 1))
    (kk : W p l e R s m args below meth c H locs cells slots Q (F0 m (pc + 1) ls (va_rf (f i.toNatClampNeg) :: rest))) : W p l e R s m args below meth c H locs cells slots Q (F0 m pc ls (.int i :: .ref a :: rest)) :=
  va_aldq FX.1 FX.2.1 hw.1.2.1.1 (hw.1.1.one he) 0 t rfl ht hi d kk
theorem ar_alen (FX : CallFix p m c cc nL s args lw_all own) (hw : Ws G h nx s H locs) {t : Nat} {x : vp_A} {ty : FieldType} (he : h a = some (.inl (t, x))) (ht : (tyl G.2.1)[t]? = some (G.2.1 t, ty)) {v : Int32} (hv : Int32.ofNat x.1 = v) (d : decode cc pc = .ok (.arraylength, 1))
    (kk : W p l e R s m args below meth c H locs cells slots Q (F0 m (pc + 1) ls (.int v :: rest))) : W p l e R s m args below meth c H locs cells slots Q (F0 m pc ls (.ref a :: rest)) :=
  va_alen FX.1 FX.2.1 hw.1.2.1.1 (hw.1.1.one he) 0 t rfl ht hv d kk
theorem in_lt {i : Int32} {n : Nat} (h : vp_in i n) : i.toNatClampNeg < n := Nat.not_le.mp fun q => h (Or.inr q)
theorem ar_ast (FX : CallFix p m c cc nL s args lw_all own) (hw : Ws G h nx s H locs) {n : Nat} {f : Nat → Int32} (he : h a = some (.inl (2, n, .inl f))) {i x : Int32} (hi : vp_in i n) (d : decode cc pc = .ok (.iastore, 1))
    (kk : ∀ (H1 : Heap) (locs1 : List Loc), Ws G (mset h a (.inl (2, n, .inl (va_up f i.toNatClampNeg x)))) nx s H1 locs1 → W p l e R s m args below meth c H1 locs1 cells slots Q (F0 m (pc + 1) ls rest)) : W p l e R s m args below meth c H locs cells slots Q (F0 m pc ls (.int x :: .int i :: .ref a :: rest)) := by
  have hP := hw.1.1.one he 0 _ rfl
  have hK := hw.1.2.1.1.2 2 _ rfl
  refine W.iast FX.1 FX.2.1 hP (hK.1 n (fun j => .int (f j))) (fun h => by cases h) (by show ¬ (i < 0 ∨ (arrV _ _ _).slots.size ≤ _); rw [arrV_size]; exact hi) rfl rfl d fun H1 e1 z oq => kk H1 _ (hw.put he ?_ z oq)
  show H1[a]? = some (vp_cell _ _)
  rw [e1, vp_cell_i, vp_cell_i, arrV_store]
  congr 2
  funext q
  by_cases hq : q = i.toNatClampNeg
  · subst hq; simp [updV, va_up]
  · simp [updV, va_up, hq]
theorem ar_bast (FX : CallFix p m c cc nL s args lw_all own) (hw : Ws G h nx s H locs) {n : Nat} {f : Nat → Int32} (he : h a = some (.inl (0, n, .inl f))) {i : Int32} {x : Int32} (hi : vp_in i n) (d : decode cc pc = .ok (.bastore, 1))
    (kk : ∀ (H1 : Heap) (locs1 : List Loc), Ws G (mset h a (.inl (0, n, .inl (va_up f i.toNatClampNeg x.toInt8.toInt32)))) nx s H1 locs1 → W p l e R s m args below meth c H1 locs1 cells slots Q (F0 m (pc + 1) ls rest)) : W p l e R s m args below meth c H locs cells slots Q (F0 m pc ls (.int x :: .int i :: .ref a :: rest)) := by
  have hP := hw.1.1.one he 0 _ rfl
  have hK := hw.1.2.1.1.2 0 _ rfl
  refine W.bast FX.1 FX.2.1 hP (hK.1 n (fun j => .int (f j))) (fun h => by cases h) (by show ¬ (i < 0 ∨ (arrV _ _ _).slots.size ≤ _); rw [arrV_size]; exact hi) rfl rfl d fun H1 e1 z oq => kk H1 _ (hw.put he ?_ z oq)
  show H1[a]? = some (vp_cell _ _)
  rw [e1, vp_cell_i, vp_cell_i, arrV_store]
  congr 2
  funext q
  by_cases hq : q = i.toNatClampNeg
  · subst hq; simp [updV, va_up, narrow]
  · simp [updV, va_up, hq]
theorem ar_sast (FX : CallFix p m c cc nL s args lw_all own) (hw : Ws G h nx s H locs) {n : Nat} {f : Nat → Int32} (he : h a = some (.inl (1, n, .inl f))) {i : Int32} {x : Int32} (hi : vp_in i n) (d : decode cc pc = .ok (.sastore, 1))
    (kk : ∀ (H1 : Heap) (locs1 : List Loc), Ws G (mset h a (.inl (1, n, .inl (va_up f i.toNatClampNeg x.toInt16.toInt32)))) nx s H1 locs1 → W p l e R s m args below meth c H1 locs1 cells slots Q (F0 m (pc + 1) ls rest)) : W p l e R s m args below meth c H locs cells slots Q (F0 m pc ls (.int x :: .int i :: .ref a :: rest)) := by
  have hP := hw.1.1.one he 0 _ rfl
  have hK := hw.1.2.1.1.2 1 _ rfl
  refine W.sast FX.1 FX.2.1 hP (hK.1 n (fun j => .int (f j))) (fun h => by cases h) (by show ¬ (i < 0 ∨ (arrV _ _ _).slots.size ≤ _); rw [arrV_size]; exact hi) rfl rfl d fun H1 e1 z oq => kk H1 _ (hw.put he ?_ z oq)
  show H1[a]? = some (vp_cell _ _)
  rw [e1, vp_cell_i, vp_cell_i, arrV_store]
  congr 2
  funext q
  by_cases hq : q = i.toNatClampNeg
  · subst hq; simp [updV, va_up, narrow]
  · simp [updV, va_up, hq]
theorem ar_last (FX : CallFix p m c cc nL s args lw_all own) (hw : Ws G h nx s H locs) {n : Nat} {f : Nat → Int64} (he : h a = some (.inl (3, n, .inr (.inl f)))) {i : Int32} {x : Int64} (hi : vp_in i n) (d : decode cc pc = .ok (.lastore, 1))
    (kk : ∀ (H1 : Heap) (locs1 : List Loc), Ws G (mset h a (.inl (3, n, .inr (.inl (va_up f i.toNatClampNeg x))))) nx s H1 locs1 → W p l e R s m args below meth c H1 locs1 cells slots Q (F0 m (pc + 1) ls rest)) : W p l e R s m args below meth c H locs cells slots Q (F0 m pc ls (.long x :: .int i :: .ref a :: rest)) := by
  have hP := hw.1.1.one he 0 _ rfl
  have hK := hw.1.2.1.1.2 3 _ rfl
  refine W.last FX.1 FX.2.1 hP (hK.1 n (fun j => .long (f j))) (fun h => by cases h) (by show ¬ (i < 0 ∨ (arrV _ _ _).slots.size ≤ _); rw [arrV_size]; exact hi) rfl rfl d fun H1 e1 z oq => kk H1 _ (hw.put he ?_ z oq)
  show H1[a]? = some (vp_cell _ _)
  rw [e1, vp_cell_l, vp_cell_l, arrV_store]
  congr 2
  funext q
  by_cases hq : q = i.toNatClampNeg
  · subst hq; simp [updV, va_up]
  · simp [updV, va_up, hq]
theorem ar_qast (FX : CallFix p m c cc nL s args lw_all own) (hw : Ws G h nx s H locs) {n t v ci : Nat} {C : String} {T : u_T} {N : Nat} {vs : List Value} {f : Nat → Option Nat} (he : h a = some (.inl (t, n, .inr (.inr (.inr (.inr f)))))) (ht : (tyl G.2.1)[t]? = some (G.2.1 t, .object C)) (hv : h v = some (.inr (ci, vs))) (hc : vwCl[ci]? = some (C, T, N)) {i : Int32} (hi : vp_in i n) (d : decode cc pc = .ok (.aastore, 1))
    (kk : ∀ (H1 : Heap) (locs1 : List Loc), Ws G (mset h a (.inl (t, n, .inr (.inr (.inr (.inr (va_up f i.toNatClampNeg (some v)))))))) nx s H1 locs1 → W p l e R s m args below meth c H1 locs1 cells slots Q (F0 m (pc + 1) ls rest)) : W p l e R s m args below meth c H locs cells slots Q (F0 m pc ls (.ref v :: .int i :: .ref a :: rest)) := by
  have hP := hw.1.1.one he 0 _ rfl
  have hK := hw.1.2.1.1
  have h0 : ¬ i < 0 := fun q => hi (Or.inl q)
  obtain ⟨r', hr', cellV, g1, g2, g3, -⟩ := hw.1.1.one hv 0 _ rfl
  have hcls := (hK.1 ci _ hc).2
  obtain ⟨kA, comp, k1, k2, k3, -⟩ := (hK.2 t _ ht).2
  have hcomp : comp = G.1.1 ci := Option.some.inj (k3.symm.trans hcls.1)
  subst hcomp
  obtain ⟨kC, hkC, -⟩ := hcls.2
  refine W.aast FX.1 FX.2.1 hP (fun q h => by cases h) (fun h => by cases h) k1 k2 rfl hkC ⟨h0, by show _ < (arrV _ _ _).slots.size; rw [arrV_size]; exact in_lt hi⟩ g1 (fun q h => by rw [g3] at h; cases h) (by rw [g2]; exact hkC) (by rw [g2]; exact va_assign hcls) rfl rfl d fun H1 e1 z oq => kk H1 _ (hw.put he ?_ z oq)
  show H1[a]? = some (vp_cell _ _)
  rw [e1, vp_cell_q, vp_cell_q, arrV_store]
  congr 2
  funext q
  by_cases hq : q = i.toNatClampNeg
  · subst hq; simp [updV, va_up, va_rf]
  · simp [updV, va_up, hq]
/-! objects and arrays made -/
theorem ar_new {c0 : Code} (FX : CallFix p m c0 cc nL s args lw_all own) (hw : Ws G h nx s H locs) {C : String} {T : u_T} {N ci index : Nat} (hin : ∀ w ∈ u_ws C T N, w ∈ lw_all) (ty : Nat → FieldType) (hty : ∀ k, k < N → parseFieldDescriptor (T k).2.2.1 = some (ty k)) (hcl : (Cond.classLink own index C).before args s = true) (hinst : (Cond.instantiable C N).before args s = true) (hini : (Cond.initialized C).before args s = true) (hc : vwCl[ci]? = some (C, T, N)) {fs : List Value} (hfs : ∀ j, j < N → defaultValue (ty j) = vp_V fs j) (hcells : cells + 1 ≤ R.cells) (hslots : slots + N ≤ R.slots) (d : decode cc pc = .ok (.new index, 3))
    (kk : ∀ (H1 : Heap), Ws G (mset h nx (.inr (ci, fs))) (nx + 1) s H1 locs → W p l e R s m args below meth c0 H1 locs (cells + 1) (slots + N) Q (F0 m (pc + 3) ls (.ref nx :: rest))) : W p l e R s m args below meth c0 H locs cells slots Q (F0 m pc ls rest) := by
  have hKn := hw.1.2.1.1.1 ci _ hc
  refine W.newcK FX.1 FX.2.1 FX.2.2.2.1 hcl hinst hini rfl d hcells hslots hKn.2.1 hw.1.2.2.1 fun H1 kC hkC e1 z1 o1 => kk H1 (hw.new ?_ z1 o1)
  exact ⟨_, hc, (u_born ty FX.2.2.2.2 hin hKn hkC e1 hty).to hfs⟩
theorem ar_newa (FX : CallFix p m c cc nL s args lw_all own) (hw : Ws G h nx s H locs) {atype : ArrayType} (harr : (Cond.arrayClass (newarray.typeOf atype)).before args s = true) {t N : Nat} (ht : (tyl G.2.1)[t]? = some (G.2.1 t, newarray.typeOf atype)) (hobj : ∀ C, newarray.typeOf atype ≠ .object C) {n : Int32} {x : vp_A} (hx : ∀ cA : ClassId, vp_cell cA x = arrV cA N (fun _ => defaultValue (newarray.typeOf atype))) (hn : ¬ n < 0) (hN : n.toNatClampNeg = N) (hbytes : N * componentBytes (newarray.typeOf atype) ≤ 536870912) (hcells : cells + 1 ≤ R.cells) (hslots : slots + N ≤ R.slots) (d : decode cc pc = .ok (.newarray atype, 2))
    (kk : ∀ (H1 : Heap), Ws G (mset h nx (.inl (t, x))) (nx + 1) s H1 locs → W p l e R s m args below meth c H1 locs (cells + 1) (slots + N) Q (F0 m (pc + 2) ls (.ref nx :: rest))) : W p l e R s m args below meth c H locs cells slots Q (F0 m pc ls (.int n :: rest)) := by
  refine va_newaK FX.1 FX.2.1 harr rfl d rfl hn hN hbytes hcells hslots hw.1.2.2.1 fun H1 cA e1 z1 o1 hAr hNm => kk H1 (hw.new ?_ z1 o1)
  have hra := (hw.1.2.1.1.2 t _ ht).2
  have hcA : cA = G.2.1 t := by
    have h2 : s.vm.findClass ("[" ++ (newarray.typeOf atype).toString) = some (G.2.1 t) := by
      cases atype <;> exact hra
    exact Option.some.inj (hNm.symm.trans h2)
  show H1[nx]? = some (vp_cell _ _)
  rw [hx, ← hcA]
  exact e1
theorem ar_newq (FX : CallFix p m c cc nL s args lw_all own) (hw : Ws G h nx s H locs) {C : String} {index t N : Nat} (hcl : (Cond.classLink own index C).before args s = true) (hov : va_AO C s) (ht : (tyl G.2.1)[t]? = some (G.2.1 t, .object C)) {n : Int32} (hn : ¬ n < 0) (hN : n.toNatClampNeg = N) (hbytes : N * 4 ≤ 536870912) (hcells : cells + 1 ≤ R.cells) (hslots : slots + N ≤ R.slots) (d : decode cc pc = .ok (.anewarray index, 3))
    (kk : ∀ (H1 : Heap), Ws G (mset h nx (.inl (t, N, .inr (.inr (.inr (.inr (fun _ => none))))))) (nx + 1) s H1 locs → W p l e R s m args below meth c H1 locs (cells + 1) (slots + N) Q (F0 m (pc + 3) ls (.ref nx :: rest))) : W p l e R s m args below meth c H locs cells slots Q (F0 m pc ls (.int n :: rest)) := by
  subst hN
  refine W.anew FX.1 FX.2.1 FX.2.2.2.1 hcl (va_AO.use hov) rfl d rfl hn hbytes hcells hslots fun cA kA comp f1 f2 f3 f4 => ?_
  generalize hH1 : H.push ({ cls := cA, slots := Array.replicate n.toNatClampNeg .null, vm := .none } : Cell) = H1
  have hnx : H.size = nx := hw.1.2.2.1
  have z1 : H1.size = nx + 1 := by rw [← hH1, Array.size_push, hnx]
  have e1 : H1[nx]? = some (arrV cA n.toNatClampNeg (fun _ => .null)) := by rw [← hH1, ← hnx, Array.getElem?_push_size, ← arrV_new]
  have o1 : ∀ q : Nat, q < nx → H1[q]? = H[q]? := fun q hq => by rw [← hH1, Array.getElem?_push, if_neg (by omega)]
  obtain ⟨kA', comp', g1, g2, g3, g4⟩ := (hw.1.2.1.1.2 t _ ht).2
  have hcA : cA = G.2.1 t := Option.some.inj (f1.symm.trans g4)
  rw [show H.size = nx from hnx]
  refine kk H1 (hw.new ?_ z1 o1)
  show H1[nx]? = some (vp_cell _ _)
  rw [vp_cell_q, ← hcA]
  exact e1
end B3
