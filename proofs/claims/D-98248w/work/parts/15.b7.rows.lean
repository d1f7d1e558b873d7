/-! ROWS of the other cells -/
section B7
variable {p : Program} {l : Launch} {e : Env} {R : Room} {s : State} {m : MethodId} {args : Array Value} {below : List Frame} {meth : Method} {c : Code} {H : Heap} {locs : List Loc} {cells slots : Nat} {Q : State → Prop}
variable {cc : ByteArray} {nL : Nat} {own : String} {pc : Nat} {ls : Array Slot} {rest : List Value} {G : GT} {M C : FS} {K K1 : KT} {a : Nat}
theorem dyn_he (hw : WS G (M, C, K.1, K.2.1) s H locs) {e : va_E} (he : K.1 a = some e) : emb G.2.2.2 (M, C, K.1, K.2.1) a = some e := (emb_dyn (S := (M, C, K.1, K.2.1)) (hw.2.2 a (by show K.1 a ≠ none; rw [he]; exact fun h => by cases h))).trans he
theorem dyn_put (hw : WS G (M, C, K.1, K.2.1) s H locs) {e0 e : va_E} (he : K.1 a = some e0) {H1 : Heap} {locs1 : List Loc} (h : Ws G (mset (emb G.2.2.2 (M, C, K.1, K.2.1)) a e) K.2.1 s H1 locs1) (hK : K1 = (mset K.1 a e, K.2)) : WS G (M, C, K1.1, K1.2.1) s H1 locs1 := by
  subst hK
  exact WS.dyn (M := M) (C := C) (h := K.1) (nx := K.2.1) (nx' := K.2.1) hw.2 (hw.2.2 a (by show K.1 a ≠ none; rw [he]; exact fun h => by cases h)) h
theorem dyn_fresh (hw : WS G (M, C, K.1, K.2.1) s H locs) : embF G.2.2.2 (comb M C) K.2.1 = none := by
  cases h : embF G.2.2.2 (comb M C) K.2.1 with
  | none => rfl
  | some e =>
    have h1 := hw.1.1.1.lt (emb_fix (S := (M, C, K.1, K.2.1)) h)
    have h2 : H.size = K.2.1 := hw.1.1.2.2.1
    omega
theorem dyn_newO (hw : WS G (M, C, K.1, K.2.1) s H locs) {ci : Nat} {fs : List Value} {H1 : Heap} (h : Ws G (mset (emb G.2.2.2 (M, C, K.1, K.2.1)) K.2.1 (.inr (ci, fs))) (K.2.1 + 1) s H1 locs) : WS G (M, C, (nO K ci fs).1, (nO K ci fs).2.1) s H1 locs :=
  WS.dyn (M := M) (C := C) (h := K.1) (nx := K.2.1) hw.2 (dyn_fresh hw) h
theorem dyn_newE (hw : WS G (M, C, K.1, K.2.1) s H locs) {t : Nat} {x : vp_A} {H1 : Heap} (h : Ws G (mset (emb G.2.2.2 (M, C, K.1, K.2.1)) K.2.1 (.inl (t, x))) (K.2.1 + 1) s H1 locs) : WS G (M, C, (nE K t x).1, (nE K t x).2.1) s H1 locs :=
  WS.dyn (M := M) (C := C) (h := K.1) (nx := K.2.1) hw.2 (dyn_fresh hw) h
theorem ei_ald (FX : CallFix p m c cc nL s args lw_all own) (hw : WS G (M, C, K.1, K.2.1) s H locs) {i v : Int32} (hv : eI K 2 a i = some v) (d : decode cc pc = .ok (.iaload, 1))
    (kk : W p l e R s m args below meth c H locs cells slots Q (F0 m (pc + 1) ls (.int v :: rest))) : W p l e R s m args below meth c H locs cells slots Q (F0 m pc ls (.int i :: .ref a :: rest)) := by
  obtain ⟨n, f, he, hi, rfl⟩ := eI_some hv
  exact ar_ald FX hw.1 (dyn_he hw he) hi d kk
theorem ei_lald (FX : CallFix p m c cc nL s args lw_all own) (hw : WS G (M, C, K.1, K.2.1) s H locs) {i : Int32} {v : Int64} (hv : eL K a i = some v) (d : decode cc pc = .ok (.laload, 1))
    (kk : W p l e R s m args below meth c H locs cells slots Q (F0 m (pc + 1) ls (.long v :: rest))) : W p l e R s m args below meth c H locs cells slots Q (F0 m pc ls (.int i :: .ref a :: rest)) := by
  obtain ⟨n, f, he, hi, rfl⟩ := eL_some hv
  exact ar_lald FX hw.1 (dyn_he hw he) hi d kk
theorem ei_qald (t : Nat) {CC : String} (ht : (tyl G.2.1)[t]? = some (G.2.1 t, .object CC)) (FX : CallFix p m c cc nL s args lw_all own) (hw : WS G (M, C, K.1, K.2.1) s H locs) {i : Int32} {v : Option Nat} (hv : eQ K t a i = some v) (d : decode cc pc = .ok (.aaload, 1))
    (kk : W p l e R s m args below meth c H locs cells slots Q (F0 m (pc + 1) ls (va_rf v :: rest))) : W p l e R s m args below meth c H locs cells slots Q (F0 m pc ls (.int i :: .ref a :: rest)) := by
  obtain ⟨n, f, he, hi, rfl⟩ := eQ_some hv
  exact ar_qald FX hw.1 (dyn_he hw he) ht hi d kk
theorem ei_aald (t : Nat) {CC : String} (ht : (tyl G.2.1)[t]? = some (G.2.1 t, .object CC)) (FX : CallFix p m c cc nL s args lw_all own) (hw : WS G (M, C, K.1, K.2.1) s H locs) {i : Int32} {v : Nat} (hv : eA K t a i = some v) (d : decode cc pc = .ok (.aaload, 1))
    (kk : W p l e R s m args below meth c H locs cells slots Q (F0 m (pc + 1) ls (.ref v :: rest))) : W p l e R s m args below meth c H locs cells slots Q (F0 m pc ls (.int i :: .ref a :: rest)) := ei_qald t ht FX hw (eA_some hv) d kk
theorem ei_ast (FX : CallFix p m c cc nL s args lw_all own) (hw : WS G (M, C, K.1, K.2.1) s H locs) {i v : Int32} (hv : wI K 2 a i v = some K1) (d : decode cc pc = .ok (.iastore, 1))
    (kk : ∀ (H : Heap) (locs : List Loc), WS G (M, C, K1.1, K1.2.1) s H locs → W p l e R s m args below meth c H locs cells slots Q (F0 m (pc + 1) ls rest)) : W p l e R s m args below meth c H locs cells slots Q (F0 m pc ls (.int v :: .int i :: .ref a :: rest)) := by
  obtain ⟨n, f, he, hi, hK⟩ := wI_some hv
  exact ar_ast FX hw.1 (dyn_he hw he) hi d (fun H1 locs1 h => kk H1 locs1 (dyn_put hw he h hK))
theorem ei_last (FX : CallFix p m c cc nL s args lw_all own) (hw : WS G (M, C, K.1, K.2.1) s H locs) {i : Int32} {v : Int64} (hv : wL K a i v = some K1) (d : decode cc pc = .ok (.lastore, 1))
    (kk : ∀ (H : Heap) (locs : List Loc), WS G (M, C, K1.1, K1.2.1) s H locs → W p l e R s m args below meth c H locs cells slots Q (F0 m (pc + 1) ls rest)) : W p l e R s m args below meth c H locs cells slots Q (F0 m pc ls (.long v :: .int i :: .ref a :: rest)) := by
  obtain ⟨n, f, he, hi, hK⟩ := wL_some hv
  exact ar_last FX hw.1 (dyn_he hw he) hi d (fun H1 locs1 h => kk H1 locs1 (dyn_put hw he h hK))
/-- an object may lie in a row of kind t -/
theorem okc_cast {t ci : Nat} (h : okc t ci = true) : ∃ (E CC : String) (T : u_T) (N : Nat), (∀ tc : Nat → ClassId, (tyl tc)[t]? = some (tc t, .object E)) ∧ vwCl[ci]? = some (CC, T, N) ∧ (CC = E ∨ (CC, E) ∈ nwC) := by
  unfold okc at h
  simp only [Bool.or_eq_true, Bool.and_eq_true, beq_iff_eq] at h
  rcases h with (((⟨rfl, h⟩ | ⟨rfl, rfl⟩) | ⟨rfl, rfl⟩) | ⟨rfl, rfl⟩) | ⟨rfl, rfl⟩
  · rcases h with ((rfl | rfl) | rfl) | rfl
    · exact ⟨_, _, _, _, fun _ => rfl, rfl, Or.inr (by decide)⟩
    · exact ⟨_, _, _, _, fun _ => rfl, rfl, Or.inr (by decide)⟩
    · exact ⟨_, _, _, _, fun _ => rfl, rfl, Or.inr (by decide)⟩
    · exact ⟨_, _, _, _, fun _ => rfl, rfl, Or.inr (by decide)⟩
  · exact ⟨_, _, _, _, fun _ => rfl, rfl, Or.inl rfl⟩
  · exact ⟨_, _, _, _, fun _ => rfl, rfl, Or.inl rfl⟩
  · exact ⟨_, _, _, _, fun _ => rfl, rfl, Or.inl rfl⟩
  · exact ⟨_, _, _, _, fun _ => rfl, rfl, Or.inl rfl⟩
/-- the facts of a row's class and of an object that may lie in it -/
theorem row_obj {h : AH} {nx t v : Nat} {o : Nat × List Value} (hw : Ws G h nx s H locs) (hv : h v = some (.inr o)) (hok : okc t o.1 = true) : ∃ (cV : Cell) (kA kE kV : Class) (comp : ClassId) (E : String), (tyl G.2.1)[t]? = some (G.2.1 t, .object E) ∧ H[v]? = some cV ∧ (∀ q, cV.vm ≠ .statics q) ∧ s.vm.classes[G.2.1 t]? = some kA ∧ kA.kind = .array comp (.object E) ∧ s.vm.classes[comp]? = some kE ∧ s.vm.classes[cV.cls]? = some kV ∧ s.vm.assignable cV.cls comp = true := by
  obtain ⟨E, CC, T, N, ht, hc, hcast⟩ := okc_cast hok
  have hK := hw.1.2.1.1
  obtain ⟨r', hr', cellV, g1, g2, g3, -⟩ := hw.1.1.one hv 0 _ rfl
  have hcls := (hK.1 o.1 _ hc).2
  obtain ⟨kA, comp, k1, k2, k3, -⟩ := (hK.2 t _ (ht G.2.1)).2
  obtain ⟨kE, hkE, -⟩ := Vm.findClass_spec k3
  obtain ⟨kC, hkC, -⟩ := hcls.2
  refine ⟨cellV, kA, kE, kC, comp, E, ht G.2.1, g1, (fun q h => by rw [g3] at h; cases h), k1, k2, hkE, by rw [g2]; exact hkC, ?_⟩
  rw [g2]
  rcases hcast with e | e
  · subst e
    have hcomp : comp = G.1.1 o.1 := Option.some.inj (k3.symm.trans hcls.1)
    rw [hcomp]
    exact va_assign hcls
  · obtain ⟨c0, t1, f1, f2, f3⟩ := Cond.castable_spec (va_Nw.use (A := #[]) rfl (hw.1.2.1.2.2.2.1 _ e))
    cases hcls.1.symm.trans f1
    cases k3.symm.trans f2
    exact f3
theorem ei_rast (FX : CallFix p m c cc nL s args lw_all own) (hw : WS G (M, C, K.1, K.2.1) s H locs) {t v : Nat} {i : Int32} (hv : wR K t a i v = some K1) (d : decode cc pc = .ok (.aastore, 1))
    (kk : ∀ (H : Heap) (locs : List Loc), WS G (M, C, K1.1, K1.2.1) s H locs → W p l e R s m args below meth c H locs cells slots Q (F0 m (pc + 1) ls rest)) : W p l e R s m args below meth c H locs cells slots Q (F0 m pc ls (.ref v :: .int i :: .ref a :: rest)) := by
  obtain ⟨n, f, o, he, hev, hi, hok, hK⟩ := wR_some hv
  obtain ⟨cV, kA, kE, kV, comp, E, ht, h1, h2, h3, h4, h5, h6, h7⟩ := row_obj hw.1 (dyn_he hw hev) hok
  have h0 : ¬ i < 0 := fun q => hi (Or.inl q)
  refine W.aast FX.1 FX.2.1 (hw.1.1.1.one (dyn_he hw he) 0 _ rfl) (fun q h => by cases h) (fun h => by cases h) h3 h4 rfl h5 ⟨h0, by show _ < (arrV _ _ _).slots.size; rw [arrV_size]; exact in_lt hi⟩ h1 h2 h6 h7 rfl rfl d fun H1 e1 z oq => kk H1 _ (dyn_put hw he (hw.1.put (dyn_he hw he) ?_ z oq) hK)
  show H1[a]? = some (vp_cell _ _)
  rw [e1, vp_cell_q, vp_cell_q, arrV_store]
  congr 2
  funext q
  by_cases hq : q = i.toNatClampNeg
  · subst hq; simp [updV, va_up, va_rf]
  · simp [updV, va_up, hq]
/-! System.arraycopy -/
theorem nn32 {z : Int32} (hz : ¬ z < 0) : z.toInt = (z.toNatClampNeg : Int) := by
  have hz0 : (0 : Int) ≤ z.toInt := by
    have := Int32.not_lt.mp hz
    simpa using Int32.le_iff_toInt_le.mp this
  show z.toInt = ((z.toInt.toNat : Nat) : Int)
  omega
theorem ar_copy {h : AH} {nx index t a0 n0 n1 : Nat} {x0 x1 x2 : vp_A} {v0 v1 : Nat → Value} {ty : FieldType} {sp dp n : Int32} (FX : CallFix p m c cc nL s args lw_all own) (hl : ls.size = nL) (hw : Ws G h nx s H locs) (hlink : Cond.methodLink own index arraycopyName ∈ lw_all) (hnat : Cond.native arraycopyName ∈ lw_all) (hstat : Cond.static arraycopyName ∈ lw_all) (hini : Cond.initialized "java/lang/System" ∈ lw_all)
    (h0 : h a0 = some (.inl (t, x0))) (h1 : h a = some (.inl (t, x1))) (e0 : ∀ cA, vp_cell cA x0 = arrV cA n0 v0) (e1 : ∀ cA, vp_cell cA x1 = arrV cA n1 v1) (e2 : ∀ cA, vp_cell cA x2 = arrV cA n1 (va_cpy v0 v1 sp.toNatClampNeg dp.toNatClampNeg n.toNatClampNeg)) (ht : (tyl G.2.1)[t]? = some (G.2.1 t, ty)) (hb : ¬ sp < 0 ∧ ¬ dp < 0 ∧ ¬ n < 0 ∧ sp.toNatClampNeg + n.toNatClampNeg ≤ n0 ∧ dp.toNatClampNeg + n.toNatClampNeg ≤ n1)
    (hel : ∀ (T : State) (comp : ClassId) (k1 : Class), T.heap = H → s.vm.Alike T.vm → s.vm.classes[G.2.1 t]? = some k1 → k1.kind = .array comp ty → ∀ i, i < n.toNatClampNeg → fits ty (v0 (sp.toNatClampNeg + i)) = true ∧ T.takes comp (v0 (sp.toNatClampNeg + i)))
    (hframes : 1 ≤ R.frames) (hlocals : (rest.map fun v => v.category).sum + (nativeFrameWords "java/lang/System" "arraycopy" 5 + 11) ≤ R.locals) (d : decode cc pc = .ok (.invokestatic index, 3))
    (kk : ∀ (H1 : Heap) (locs1 : List Loc), Ws G (mset h a (.inl (t, x2))) nx s H1 locs1 → W p l e R s m args below meth c H1 locs1 cells slots Q (F0 m (pc + 3) ls rest)) : W p l e R s m args below meth c H locs cells slots Q (F0 m pc ls (.int n :: .int dp :: .ref a :: .int sp :: .ref a0 :: rest)) := by
  obtain ⟨b1, b2, b3, b4, b5⟩ := hb
  have hts := FX.2.2.2.2
  intro T hT X
  have hc0 : H[a0]? = some (vp_cell (G.2.1 t) x0) := hw.1.1.one h0 0 _ rfl
  have hc1 : H[a]? = some (vp_cell (G.2.1 t) x1) := hw.1.1.one h1 0 _ rfl
  rw [e0] at hc0
  rw [e1] at hc1
  obtain ⟨-, k0, hk0, cm0, hkk0⟩ := (hw.1.2.1.1.2 t _ ht).1 n0 v0
  obtain ⟨vm', X', step⟩ := X.arraycopy FX.1 FX.2.2.2.1 (hts _ hlink) (hts _ hnat) (hts _ hstat) (hts _ hini) (src := a0) (dst := a) (cs := arrV (G.2.1 t) n0 v0) (cd := arrV (G.2.1 t) n1 v1) (srcPos := sp) (destPos := dp) (n := n) (by rw [hT]; exact hc0) (by rw [hT]; exact hc1)
    (fun _ h => by cases h) (fun _ h => by cases h) (fun h => by cases h) (fun h => by cases h) hk0 hk0 hkk0 hkk0 (by cases ty <;> simp) b1 b2 b3
    (by rw [nn32 b1, nn32 b3, arrV_size]; omega) (by rw [nn32 b2, nn32 b3, arrV_size]; omega)
    (fun vm₁ hal i hi => by
      rw [show (arrV (G.2.1 t) n0 v0).slots.getD (sp.toNatClampNeg + i) .null = v0 (sp.toNatClampNeg + i) by
        rw [Array.getD_eq_getD_getElem?, arrV_read _ _ (by omega)]; rfl]
      exact hel (T.setVm vm₁) cm0 k0 hT hal hk0 hkk0 i hi)
    (g := F0 m pc ls (.int n :: .int dp :: .ref a :: .int sp :: .ref a0 :: rest)) rfl (by rw [FX.2.2.1]; exact hl) (rest := rest) rfl (by rw [FX.2.1]; exact d) hframes (by show 2 * 0 + _ + _ ≤ _; omega)
  have ec : copied (arrV (G.2.1 t) n0 v0) (arrV (G.2.1 t) n1 v1) sp dp n = vp_cell (G.2.1 t) x2 := by
    rw [e2]
    exact va_copied (fun z => z) _ _ v0 v1 b4
  rw [ec] at X' step
  have hl2 : a < H.size := (Array.getElem?_eq_some_iff.mp hc1).1
  have hheap : ((T.setVm vm').setCell a (vp_cell (G.2.1 t) x2)).heap = H.setIfInBounds a (vp_cell (G.2.1 t) x2) := by rw [← hT]; rfl
  have oq : ∀ q : Nat, q ≠ a → (H.setIfInBounds a (vp_cell (G.2.1 t) x2))[q]? = H[q]? := fun q hq => by simp [Array.getElem?_setIfInBounds, Ne.symm hq]
  have hz := (hw.1.1 a _ h1).2
  have hnew := hw.put (k := 0) (e := .inl (t, x2)) h1 (show (H.setIfInBounds a _)[a]? = some _ by simp [Array.getElem?_setIfInBounds, hl2]) (by simp) oq
  obtain ⟨t2, a1, c1⟩ := kk _ _ ⟨hnew.1, hnew.2.1, hnew.2.2.1, fun q hq => by
      rcases List.mem_append.mp hq with h | h
      · exact hw.2.2.2 q h
      · obtain ⟨z, -, hz2⟩ := List.mem_map.mp h
        rw [← hz2]; exact hz⟩ _ hheap X'
  exact ⟨t2, step t2 a1, c1⟩
theorem cp_links : Cond.native arraycopyName ∈ lw_all ∧ Cond.static arraycopyName ∈ lw_all ∧ Cond.initialized "java/lang/System" ∈ lw_all := ⟨q636, q635, q149⟩
theorem ei_cpI {index a0 : Nat} {sp dp n : Int32} (FX : CallFix p m c cc nL s args lw_all own) (hl : ls.size = nL) (hw : WS G (M, C, K.1, K.2.1) s H locs) (hlink : Cond.methodLink own index arraycopyName ∈ lw_all) (hv : cpI K a0 sp a dp n = some K1) (hframes : 1 ≤ R.frames) (hlocals : (rest.map fun v => v.category).sum + (nativeFrameWords "java/lang/System" "arraycopy" 5 + 11) ≤ R.locals) (d : decode cc pc = .ok (.invokestatic index, 3))
    (kk : ∀ (H : Heap) (locs : List Loc), WS G (M, C, K1.1, K1.2.1) s H locs → W p l e R s m args below meth c H locs cells slots Q (F0 m (pc + 3) ls rest)) : W p l e R s m args below meth c H locs cells slots Q (F0 m pc ls (.int n :: .int dp :: .ref a :: .int sp :: .ref a0 :: rest)) := by
  obtain ⟨n0, n1, f, g, h0, h1, hb, hK⟩ := cpI_some hv
  refine ar_copy (v0 := fun j => .int (f j)) (v1 := fun j => .int (g j)) (x2 := (n1, .inl (va_cpy f g sp.toNatClampNeg dp.toNatClampNeg n.toNatClampNeg))) FX hl hw.1 hlink cp_links.1 cp_links.2.1 cp_links.2.2 (dyn_he hw h0) (dyn_he hw h1) (fun _ => rfl) (fun _ => rfl) (fun _ => ?_) rfl hb (fun _ _ _ _ _ _ _ _ _ => ⟨rfl, trivial⟩) hframes hlocals d (fun H1 locs1 h => kk H1 locs1 (dyn_put hw h1 h hK))
  rw [vp_cell_i]; congr 1; funext k; unfold va_cpy; split <;> rfl
theorem ei_cpL {index a0 : Nat} {sp dp n : Int32} (FX : CallFix p m c cc nL s args lw_all own) (hl : ls.size = nL) (hw : WS G (M, C, K.1, K.2.1) s H locs) (hlink : Cond.methodLink own index arraycopyName ∈ lw_all) (hv : cpL K a0 sp a dp n = some K1) (hframes : 1 ≤ R.frames) (hlocals : (rest.map fun v => v.category).sum + (nativeFrameWords "java/lang/System" "arraycopy" 5 + 11) ≤ R.locals) (d : decode cc pc = .ok (.invokestatic index, 3))
    (kk : ∀ (H : Heap) (locs : List Loc), WS G (M, C, K1.1, K1.2.1) s H locs → W p l e R s m args below meth c H locs cells slots Q (F0 m (pc + 3) ls rest)) : W p l e R s m args below meth c H locs cells slots Q (F0 m pc ls (.int n :: .int dp :: .ref a :: .int sp :: .ref a0 :: rest)) := by
  obtain ⟨n0, n1, f, g, h0, h1, hb, hK⟩ := cpL_some hv
  refine ar_copy (v0 := fun j => .long (f j)) (v1 := fun j => .long (g j)) (x2 := (n1, .inr (.inl (va_cpy f g sp.toNatClampNeg dp.toNatClampNeg n.toNatClampNeg)))) FX hl hw.1 hlink cp_links.1 cp_links.2.1 cp_links.2.2 (dyn_he hw h0) (dyn_he hw h1) (fun _ => rfl) (fun _ => rfl) (fun _ => ?_) rfl hb (fun _ _ _ _ _ _ _ _ _ => ⟨rfl, trivial⟩) hframes hlocals d (fun H1 locs1 h => kk H1 locs1 (dyn_put hw h1 h hK))
  rw [vp_cell_l]; congr 1; funext k; unfold va_cpy; split <;> rfl
theorem ei_cpQ (t : Nat) {CC : String} {index a0 : Nat} {sp dp n : Int32} (ht : (tyl G.2.1)[t]? = some (G.2.1 t, .object CC)) (FX : CallFix p m c cc nL s args lw_all own) (hl : ls.size = nL) (hw : WS G (M, C, K.1, K.2.1) s H locs) (hlink : Cond.methodLink own index arraycopyName ∈ lw_all) (hv : cpQ K t a0 sp a dp n = some K1) (hframes : 1 ≤ R.frames) (hlocals : (rest.map fun v => v.category).sum + (nativeFrameWords "java/lang/System" "arraycopy" 5 + 11) ≤ R.locals) (d : decode cc pc = .ok (.invokestatic index, 3))
    (kk : ∀ (H : Heap) (locs : List Loc), WS G (M, C, K1.1, K1.2.1) s H locs → W p l e R s m args below meth c H locs cells slots Q (F0 m (pc + 3) ls rest)) : W p l e R s m args below meth c H locs cells slots Q (F0 m pc ls (.int n :: .int dp :: .ref a :: .int sp :: .ref a0 :: rest)) := by
  obtain ⟨n0, n1, f, g, h0, h1, hb, hel, hK⟩ := cpQ_some hv
  refine ar_copy (v0 := fun j => va_rf (f j)) (v1 := fun j => va_rf (g j)) (x2 := (n1, .inr (.inr (.inr (.inr (va_cpy f g sp.toNatClampNeg dp.toNatClampNeg n.toNatClampNeg)))))) FX hl hw.1 hlink cp_links.1 cp_links.2.1 cp_links.2.2 (dyn_he hw h0) (dyn_he hw h1) (fun _ => vp_cell_q _ _ _) (fun _ => vp_cell_q _ _ _) (fun _ => ?_) ht hb (fun T comp k1 hT hal hk1 hkk1 i hi => ?_) hframes hlocals d (fun H1 locs1 h => kk H1 locs1 (dyn_put hw h1 h hK))
  · rw [vp_cell_q]; congr 1; funext k; unfold va_cpy; split <;> rfl
  · have h := hel i hi
    cases hy : f (sp.toNatClampNeg + i) with
    | none => exact ⟨rfl, trivial⟩
    | some y =>
      rw [hy] at h
      unfold okE at h
      split at h
      · rename_i e; cases e
      · rename_i y' e
        cases e
        split at h
        · rename_i o ho
          obtain ⟨cV, kA, kE, kV, comp', E, ht', g1, g2, g3, g4, g5, g6, g7⟩ := row_obj hw.1 (dyn_he hw ho) h
          cases ht.symm.trans ht'
          cases hk1.symm.trans g3
          cases hkk1.symm.trans g4
          obtain ⟨kV', hkV', -⟩ := hal.2.2 _ _ g6
          obtain ⟨kE', hkE', -⟩ := hal.2.2 _ _ g5
          refine ⟨rfl, cV, (show T.heap[y]? = some cV by rw [hT]; exact g1), g2, ⟨kV', hkV'⟩, ⟨kE', hkE'⟩, ?_⟩
          show T.vm.assignable _ _ = true
          rw [hal.assignable]
          exact g7
        · cases h
/-- ints between two rows of the fixed cells -/
theorem fx_cpF {index k0 n0 k1 n1 : Nat} {sp dp n : Int32} {h : AH} {nx : Nat} {C1 : FS} (FX : CallFix p m c cc nL s args lw_all own) (hl : ls.size = nL) (hw : WS G (M, C, h, nx) s H locs) (hlink : Cond.methodLink own index arraycopyName ∈ lw_all) (hk0 : (k0, 2, n0) ∈ farrs) (hk1 : (k1, 2, n1) ∈ farrs) (h100 : 100 ≤ k0) (h101 : 100 ≤ k1) (hv : cpF C k0 n0 sp k1 n1 dp n = some C1) (hframes : 1 ≤ R.frames) (hlocals : (rest.map fun v => v.category).sum + (nativeFrameWords "java/lang/System" "arraycopy" 5 + 11) ≤ R.locals) (d : decode cc pc = .ok (.invokestatic index, 3))
    (kk : ∀ (H : Heap) (locs : List Loc), WS G (M, C1, h, nx) s H locs → W p l e R s m args below meth c H locs cells slots Q (F0 m (pc + 3) ls rest)) : W p l e R s m args below meth c H locs cells slots Q (F0 m pc ls (.int n :: .int dp :: .ref (G.2.2.2 k1) :: .int sp :: .ref (G.2.2.2 k0) :: rest)) := by
  obtain ⟨hb, hC⟩ := gd_some hv
  have hC := Option.some.inj hC
  have e0 : (comb M C).2.2.2.1 k0 = C.2.2.2.1 k0 := if_neg (Nat.not_lt.mpr h100)
  have e1 : (comb M C).2.2.2.1 k1 = C.2.2.2.1 k1 := if_neg (Nat.not_lt.mpr h101)
  have a0 : emb G.2.2.2 (M, C, h, nx) (G.2.2.2 k0) = some (.inl (2, n0, .inl (C.2.2.2.1 k0))) := by rw [← e0]; exact fx_arr hw hk0
  have a1 : emb G.2.2.2 (M, C, h, nx) (G.2.2.2 k1) = some (.inl (2, n1, .inl (C.2.2.2.1 k1))) := by rw [← e1]; exact fx_arr hw hk1
  refine ar_copy (v0 := fun j => .int (C.2.2.2.1 k0 j)) (v1 := fun j => .int (C.2.2.2.1 k1 j)) (x2 := (n1, .inl (va_cpy (C.2.2.2.1 k0) (C.2.2.2.1 k1) sp.toNatClampNeg dp.toNatClampNeg n.toNatClampNeg))) FX hl hw.1 hlink cp_links.1 cp_links.2.1 cp_links.2.2 a0 a1 (fun _ => rfl) (fun _ => rfl) (fun _ => ?_) rfl hb (fun _ _ _ _ _ _ _ _ _ => ⟨rfl, trivial⟩) hframes hlocals d (fun H1 locs1 hh => kk H1 locs1 (WS.fix hw.2 rfl (fun b => ?_) hh))
  · rw [vp_cell_i]; congr 1; funext k; unfold va_cpy; split <;> rfl
  · have hc : comb M C1 = ((comb M C).1, (comb M C).2.1, (comb M C).2.2.1, va_up (comb M C).2.2.2.1 k1 (va_cpy (C.2.2.2.1 k0) (C.2.2.2.1 k1) sp.toNatClampNeg dp.toNatClampNeg n.toNatClampNeg), (comb M C).2.2.2.2) := by
      rw [← hC]
      exact Prod.ext rfl (Prod.ext rfl (Prod.ext rfl (Prod.ext (cmc h101) rfl)))
    rw [hc, embF_seta hw.2.1 hk1 (F := comb M C) (F' := ((comb M C).1, (comb M C).2.1, (comb M C).2.2.1, va_up (comb M C).2.2.2.1 k1 (va_cpy (C.2.2.2.1 k0) (C.2.2.2.1 k1) sp.toNatClampNeg dp.toNatClampNeg n.toNatClampNeg), (comb M C).2.2.2.2)) rfl rfl rfl (fun z hz => ⟨up_ne hz, rfl, rfl⟩)]
    show (if b = G.2.2.2 k1 then some (.inl (2, n1, .inl (va_up (comb M C).2.2.2.1 k1 (va_cpy (C.2.2.2.1 k0) (C.2.2.2.1 k1) sp.toNatClampNeg dp.toNatClampNeg n.toNatClampNeg) k1))) else embF G.2.2.2 (comb M C) b) = _
    rw [up_eq]
end B7
