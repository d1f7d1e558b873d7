/-! CALLS whose callee may make fewer cells than its room; inherited, abstract and overridden methods; super -/
def EtI (l : Launch) (y : MethodName) (ws : List Cond) (rm : Room) (G : GT) (As : List Value) (S : ST) (r : Int32) (S' : ST) (mc ms : Nat) : Prop := Met l y ws rm (va_Pc As (fun U => WD G S U)) (va_Qi (fun (v : Int32) (_ : Unit) => v = r) (fun _ t => WD G S' t) (Fz G)) mc ms (Fz G)
def EtL (l : Launch) (y : MethodName) (ws : List Cond) (rm : Room) (G : GT) (As : List Value) (S : ST) (r : Int64) (S' : ST) (mc ms : Nat) : Prop := Met l y ws rm (va_Pc As (fun U => WD G S U)) (va_Ql (fun (v : Int64) (_ : Unit) => v = r) (fun _ t => WD G S' t) (Fz G)) mc ms (Fz G)
def EtV (l : Launch) (y : MethodName) (ws : List Cond) (rm : Room) (G : GT) (As : List Value) (S : ST) (S' : ST) (mc ms : Nat) : Prop := Met l y ws rm (va_Pc As (fun U => WD G S U)) (va_Qv (fun (_ : Unit) => True) (fun _ t => WD G S' t) (Fz G)) mc ms (Fz G)
def EtQ (l : Launch) (y : MethodName) (ws : List Cond) (rm : Room) (G : GT) (As : List Value) (S : ST) (r : Option Nat) (S' : ST) (mc ms : Nat) : Prop := Met l y ws rm (va_Pc As (fun U => WD G S U)) (va_Qq (fun (v : Option Nat) (_ : Unit) => v = r) (fun _ t => WD G S' t) (Fz G)) mc ms (Fz G)
section B8
variable {p : Program} {l : Launch} {e : Env} {R : Room} {s : State} {m : MethodId} {args : Array Value} {below : List Frame} {meth : Method} {c : Code} {H : Heap} {locs : List Loc} {cells slots : Nat} {Q : State → Prop}
variable {cc bytes : ByteArray} {nL maxL index n ci N b pc mc ms : Nat} {own C owner : String} {ls : Array Slot} {rest st0 As : List Value} {G : GT} {S S' : ST} {x y : MethodName} {ret : Option FieldType} {ws ws' : List Cond} {rm : Room} {fs : List Value} {T : u_T} {Pc : Array Value → State → Prop} {Qc : Array Value → State → Outcome → State → Prop} {free : Addr → Prop} {g : JFrame}
theorem back2 {sargs : Array Value} {len Ww : Nat} (hM : Met l y ws rm Pc Qc mc ms free) (hblind : FrameBlind Pc) (hframes : rm.frames + 1 ≤ R.frames) (hlocals : Ww + (maxL + 11) + rm.locals ≤ R.locals) (hws : ∀ w ∈ ws, ∀ a' U, s.WarmedH U.vm → w.before a' U = true) (hcode : Cond.code y bytes maxL ret ∈ ws) (hinit : ∀ a' U, s.WarmedH U.vm → (Cond.initialized y.cls).before a' U = true) :
    Back l R p e below s sargs y len Ww (PreOf R rm.cells rm.slots Pc) (PostOf Qc mc ms free) := by
  refine Back.of_free (S := headSpec ws rm) (P := Pc) (K := fun _ _ _ _ _ => True) (Q := fun a st o t => Qc a st o t ∧ ∃ L, FrameEnd st o t L mc ms ∧ ∀ q ∈ L, free q.base) (bytes := bytes) (maxL := maxL) (ret := ret)
    (E := fun a st o t L k n => k = mc ∧ n = ms ∧ ∀ q ∈ L, free q.base) hM hframes hlocals ?_ ?_ (fun _ _ _ _ _ _ _ _ _ => trivial) ?_ ?_
  · intro m meth c A a X hp
    exact ⟨atoms_intro fun w hw => hws w hw _ _ X.warmed, hws _ hcode _ _ X.warmed, hinit _ _ X.warmed, hp.1, hp.2.1⟩
  · intro m meth c A a g mk X hp
    exact hblind _ _ _ _ hp.2.2
  · intro a st o t ⟨hq, L, hF, hL⟩
    exact ⟨L, mc, ms, hF, rfl, rfl, hL⟩
  · intro m meth c A a g mk v t L k n X hp hq hF ⟨e1, e2, hL⟩
    subst e1; subst e2
    exact ⟨g, mk, t, L, rfl, rfl, hq.1, rfl, hL, rfl, rfl⟩
theorem back2' (cb : CallB R s args own index y bytes maxL ret ws rm rm.cells rm.slots n) (hM : Met l y ws rm Pc Qc mc ms free) (hbl : FrameBlind Pc) : Back l R p e below s args y 3 8 (PreOf R rm.cells rm.slots Pc) (PostOf Qc mc ms free) := by
  obtain ⟨-, -, hfr, hlo, hws, hcw, -, hini, -⟩ := cb
  exact back2 (bytes := bytes) (maxL := maxL) (ret := ret) hM hbl hfr hlo hws hcw (fun a' U hW => word_at hW (Or.inl (by first | rfl | simp [Cond.onTables, Cond.keeps, Cond.steady])) hini)
theorem runV2 (F : CallFix p m c cc nL s args lw_all own) (hM : Met l y ws rm Pc Qc mc ms free) (cw : CallW R s args own C index y bytes maxL ret ws rm rm.cells rm.slots n) (hp : PreV s H C b Pc As)
    (hg : g.method = m) (hn : As.length = n) (hsize : g.locals.size = nL) (hstack : g.stack = As.reverse ++ .ref b :: rest) (hW : 2 * g.monitorRoom + (rest.map fun v => v.category).sum ≤ 8) (hdg : decode cc g.pc = .ok (.invokevirtual index, 3)) (hf : cells + rm.cells ≤ R.cells ∧ slots + rm.slots ≤ R.slots) :
    va_Run p l e R s m args below meth c H locs cells slots mc ms g rest (Qc (Value.ref b :: As).toArray) (free) := by
  have hK : Back l R p e below s args y 3 8 (PreOf R rm.cells rm.slots Pc) (PostOf Qc mc ms free) := back2' cw.1 hM hp.1
  obtain ⟨⟨-, -, -, -, -, -, hcode, -, hy, hlen, hl⟩, hin, hse⟩ := cw
  obtain ⟨hx, hb, hml, ho, -⟩ := F
  obtain ⟨-, ⟨cellB, hcB, hoB, hclB⟩, hPc⟩ := hp
  intro T hT X
  obtain ⟨v, vm₁, ⟨U', l2, c2, s2⟩, hW₁, X', ⟨g', mk, t, L, e1, e2, hq, h1, hL, h2, h3⟩, st⟩ := callV X hx (C := C) (bytes := bytes) (maxL := maxL) (ret := ret) ho hl hin hse hcode hy hK (by rw [hT]; exact hcB) hoB hclB hg (hsize.trans hml.symm) (argsL := As) (rest := rest) (fun sig h => hn.trans (hlen sig h)) hstack hW (by rw [hb]; exact hdg)
    (fun vm₁ hW₁ => ⟨hf.1, hf.2, hPc (T.setVm vm₁) hT hW₁⟩)
  dsimp only [Pt.U, Pt.locs, Pt.cells, Pt.slots] at X' e1 e2 h1 h2 h3 st
  subst h1; subst h2; subst h3
  exact ⟨v, (T.setVm vm₁).calling g' mk (Value.ref b :: As).toArray, t, U', L, hT, X', hL, e1, e2, hq, st⟩
theorem runS2 (F : CallFix p m c cc nL s args lw_all own) (hM : Met l y ws rm Pc Qc mc ms free) (cw : CallB R s args own index y bytes maxL ret ws rm rm.cells rm.slots n ∧ (Cond.static y).before args s = true) (hp : PreS s H Pc As)
    (hg : g.method = m) (hn : As.length = n) (hsize : g.locals.size = nL) (hstack : g.stack = As.reverse ++ rest) (hW : 2 * g.monitorRoom + (rest.map fun v => v.category).sum ≤ 8) (hdg : decode cc g.pc = .ok (.invokestatic index, 3)) (hf : cells + rm.cells ≤ R.cells ∧ slots + rm.slots ≤ R.slots) :
    va_Run p l e R s m args below meth c H locs cells slots mc ms g rest (Qc As.toArray) (free) := by
  have hK : Back l R p e below s args y 3 8 (PreOf R rm.cells rm.slots Pc) (PostOf Qc mc ms free) := back2' cw.1 hM hp.1
  obtain ⟨⟨-, -, -, -, -, -, hcode, hini, hy, hlen, hl⟩, hstt⟩ := cw
  obtain ⟨hx, hb, hml, ho, -⟩ := F
  intro T hT X
  obtain ⟨v, vm₁, ⟨U', l2, c2, s2⟩, hW₁, X', ⟨g', mk, t, L, e1, e2, hq, h1, hL, h2, h3⟩, st⟩ := callS X hx (bytes := bytes) (maxL := maxL) (ret := ret) ho hl hstt hini hcode hy hK hg (hsize.trans hml.symm) (argsL := As) (rest := rest) (fun sig h => hn.trans (hlen sig h)) hstack hW (by rw [hb]; exact hdg)
    (fun vm₁ hW₁ => ⟨hf.1, hf.2, hp.2 (T.setVm vm₁) hT hW₁⟩)
  dsimp only [Pt.U, Pt.locs, Pt.cells, Pt.slots] at X' e1 e2 h1 h2 h3 st
  subst h1; subst h2; subst h3
  exact ⟨v, (T.setVm vm₁).calling g' mk As.toArray, t, U', L, hT, X', hL, e1, e2, hq, st⟩
theorem runI2 (F : CallFix p m c cc nL s args lw_all own) (hM : Met l y ws rm Pc Qc mc ms free) (cw : CallB R s args own index y bytes maxL none ws rm rm.cells rm.slots n ∧ y.name = "<init>" ∧ (Cond.instanceMethod y).before args s = true) (hp : PreS s H Pc (.ref b :: As))
    (hg : g.method = m) (hn : As.length = n) (hsize : g.locals.size = nL) (hstack : g.stack = As.reverse ++ .ref b :: rest) (hW : 2 * g.monitorRoom + (rest.map fun v => v.category).sum ≤ 8) (hdg : decode cc g.pc = .ok (.invokespecial index, 3)) (hf : cells + rm.cells ≤ R.cells ∧ slots + rm.slots ≤ R.slots) :
    va_Run p l e R s m args below meth c H locs cells slots mc ms g rest (Qc (Value.ref b :: As).toArray) (free) := by
  have hK : Back l R p e below s args y 3 8 (PreOf R rm.cells rm.slots Pc) (PostOf Qc mc ms free) := back2' cw.1 hM hp.1
  obtain ⟨⟨-, -, -, -, -, -, hcode, -, hy, hlen, hl⟩, hy1, hin⟩ := cw
  obtain ⟨hx, hb, hml, ho, -⟩ := F
  intro T hT X
  obtain ⟨v, vm₁, ⟨U', l2, c2, s2⟩, hW₁, X', ⟨g', mk, t, L, e1, e2, hq, h1, hL, h2, h3⟩, st⟩ := callI X hx (bytes := bytes) (maxL := maxL) ho hy1 hl hin hcode hy hK hg (hsize.trans hml.symm) (a := b) (argsL := As) (rest := rest) (fun sig h => hn.trans (hlen sig h)) hstack hW (by rw [hb]; exact hdg)
    (fun vm₁ hW₁ => ⟨hf.1, hf.2, hp.2 (T.setVm vm₁) hT hW₁⟩)
  dsimp only [Pt.U, Pt.locs, Pt.cells, Pt.slots] at X' e1 e2 h1 h2 h3 st
  subst h1; subst h2; subst h3
  exact ⟨v, (T.setVm vm₁).calling g' mk (Value.ref b :: As).toArray, t, U', L, hT, X', hL, e1, e2, hq, st⟩
theorem xlV_i {r : Int32} (FX : CallFix p m c cc nL s args lw_all own) (hw : WS G S s H locs) (hM : EtI l y ws rm G (.ref b :: As) S r S' mc ms) (cw : CallW R s args own C index y bytes maxL ret ws rm rm.cells rm.slots n) (hrecv : emb G.2.2.2 S b = some (.inr (ci, fs))) (hC : vwCl[ci]? = some (C, T, N)) (hn : As.length = n) (hl : ls.size = nL) (hst : st0 = As.reverse ++ .ref b :: rest) (hr : 2 * (F0 m pc ls st0).monitorRoom + (rest.map fun v => v.category).sum ≤ 8) (d : decode cc pc = .ok (.invokevirtual index, 3)) (hf : cells + rm.cells ≤ R.cells ∧ slots + rm.slots ≤ R.slots)
    (kk : ∀ (H1 : Heap) (locs1 : List Loc), WS G S' s H1 locs1 → W p l e R s m args below meth c H1 locs1 (cells + mc) (slots + ms) Q (F0 m (pc + 3) ls (.int r :: rest))) : W p l e R s m args below meth c H locs cells slots Q (F0 m pc ls st0) :=
  va_calli (runV2 FX hM cw (pre_V hw hrecv hC) rfl hn hl hst hr d hf) hw.1.2 (fun _ _ h => h) (fun _ h => h) (fun v _ t H1 locs1 ht _ hv hB _ _ hS => by subst hv; exact kk H1 locs1 (hw.back ht hB hS))
theorem xlS_i {r : Int32} (FX : CallFix p m c cc nL s args lw_all own) (hw : WS G S s H locs) (hM : EtI l y ws rm G As S r S' mc ms) (cw : CallB R s args own index y bytes maxL ret ws rm rm.cells rm.slots n ∧ (Cond.static y).before args s = true) (hn : As.length = n) (hl : ls.size = nL) (hst : st0 = As.reverse ++ rest) (hr : 2 * (F0 m pc ls st0).monitorRoom + (rest.map fun v => v.category).sum ≤ 8) (d : decode cc pc = .ok (.invokestatic index, 3)) (hf : cells + rm.cells ≤ R.cells ∧ slots + rm.slots ≤ R.slots)
    (kk : ∀ (H1 : Heap) (locs1 : List Loc), WS G S' s H1 locs1 → W p l e R s m args below meth c H1 locs1 (cells + mc) (slots + ms) Q (F0 m (pc + 3) ls (.int r :: rest))) : W p l e R s m args below meth c H locs cells slots Q (F0 m pc ls st0) :=
  va_calli (runS2 FX hM cw (pre_S hw) rfl hn hl hst hr d hf) hw.1.2 (fun _ _ h => h) (fun _ h => h) (fun v _ t H1 locs1 ht _ hv hB _ _ hS => by subst hv; exact kk H1 locs1 (hw.back ht hB hS))
theorem xlV_l {r : Int64} (FX : CallFix p m c cc nL s args lw_all own) (hw : WS G S s H locs) (hM : EtL l y ws rm G (.ref b :: As) S r S' mc ms) (cw : CallW R s args own C index y bytes maxL ret ws rm rm.cells rm.slots n) (hrecv : emb G.2.2.2 S b = some (.inr (ci, fs))) (hC : vwCl[ci]? = some (C, T, N)) (hn : As.length = n) (hl : ls.size = nL) (hst : st0 = As.reverse ++ .ref b :: rest) (hr : 2 * (F0 m pc ls st0).monitorRoom + (rest.map fun v => v.category).sum ≤ 8) (d : decode cc pc = .ok (.invokevirtual index, 3)) (hf : cells + rm.cells ≤ R.cells ∧ slots + rm.slots ≤ R.slots)
    (kk : ∀ (H1 : Heap) (locs1 : List Loc), WS G S' s H1 locs1 → W p l e R s m args below meth c H1 locs1 (cells + mc) (slots + ms) Q (F0 m (pc + 3) ls (.long r :: rest))) : W p l e R s m args below meth c H locs cells slots Q (F0 m pc ls st0) :=
  va_calll (runV2 FX hM cw (pre_V hw hrecv hC) rfl hn hl hst hr d hf) hw.1.2 (fun _ _ h => h) (fun _ h => h) (fun v _ t H1 locs1 ht _ hv hB _ _ hS => by subst hv; exact kk H1 locs1 (hw.back ht hB hS))
theorem xlS_l {r : Int64} (FX : CallFix p m c cc nL s args lw_all own) (hw : WS G S s H locs) (hM : EtL l y ws rm G As S r S' mc ms) (cw : CallB R s args own index y bytes maxL ret ws rm rm.cells rm.slots n ∧ (Cond.static y).before args s = true) (hn : As.length = n) (hl : ls.size = nL) (hst : st0 = As.reverse ++ rest) (hr : 2 * (F0 m pc ls st0).monitorRoom + (rest.map fun v => v.category).sum ≤ 8) (d : decode cc pc = .ok (.invokestatic index, 3)) (hf : cells + rm.cells ≤ R.cells ∧ slots + rm.slots ≤ R.slots)
    (kk : ∀ (H1 : Heap) (locs1 : List Loc), WS G S' s H1 locs1 → W p l e R s m args below meth c H1 locs1 (cells + mc) (slots + ms) Q (F0 m (pc + 3) ls (.long r :: rest))) : W p l e R s m args below meth c H locs cells slots Q (F0 m pc ls st0) :=
  va_calll (runS2 FX hM cw (pre_S hw) rfl hn hl hst hr d hf) hw.1.2 (fun _ _ h => h) (fun _ h => h) (fun v _ t H1 locs1 ht _ hv hB _ _ hS => by subst hv; exact kk H1 locs1 (hw.back ht hB hS))
theorem xlV_q {r : Option Nat} (FX : CallFix p m c cc nL s args lw_all own) (hw : WS G S s H locs) (hM : EtQ l y ws rm G (.ref b :: As) S r S' mc ms) (cw : CallW R s args own C index y bytes maxL ret ws rm rm.cells rm.slots n) (hrecv : emb G.2.2.2 S b = some (.inr (ci, fs))) (hC : vwCl[ci]? = some (C, T, N)) (hn : As.length = n) (hl : ls.size = nL) (hst : st0 = As.reverse ++ .ref b :: rest) (hr : 2 * (F0 m pc ls st0).monitorRoom + (rest.map fun v => v.category).sum ≤ 8) (d : decode cc pc = .ok (.invokevirtual index, 3)) (hf : cells + rm.cells ≤ R.cells ∧ slots + rm.slots ≤ R.slots)
    (kk : ∀ (H1 : Heap) (locs1 : List Loc), WS G S' s H1 locs1 → W p l e R s m args below meth c H1 locs1 (cells + mc) (slots + ms) Q (F0 m (pc + 3) ls (va_rf r :: rest))) : W p l e R s m args below meth c H locs cells slots Q (F0 m pc ls st0) :=
  va_callq (runV2 FX hM cw (pre_V hw hrecv hC) rfl hn hl hst hr d hf) hw.1.2 (fun _ _ h => h) (fun _ h => h) (fun v _ t H1 locs1 ht _ hv hB _ _ hS => by subst hv; exact kk H1 locs1 (hw.back ht hB hS))
theorem xlS_q {r : Option Nat} (FX : CallFix p m c cc nL s args lw_all own) (hw : WS G S s H locs) (hM : EtQ l y ws rm G As S r S' mc ms) (cw : CallB R s args own index y bytes maxL ret ws rm rm.cells rm.slots n ∧ (Cond.static y).before args s = true) (hn : As.length = n) (hl : ls.size = nL) (hst : st0 = As.reverse ++ rest) (hr : 2 * (F0 m pc ls st0).monitorRoom + (rest.map fun v => v.category).sum ≤ 8) (d : decode cc pc = .ok (.invokestatic index, 3)) (hf : cells + rm.cells ≤ R.cells ∧ slots + rm.slots ≤ R.slots)
    (kk : ∀ (H1 : Heap) (locs1 : List Loc), WS G S' s H1 locs1 → W p l e R s m args below meth c H1 locs1 (cells + mc) (slots + ms) Q (F0 m (pc + 3) ls (va_rf r :: rest))) : W p l e R s m args below meth c H locs cells slots Q (F0 m pc ls st0) :=
  va_callq (runS2 FX hM cw (pre_S hw) rfl hn hl hst hr d hf) hw.1.2 (fun _ _ h => h) (fun _ h => h) (fun v _ t H1 locs1 ht _ hv hB _ _ hS => by subst hv; exact kk H1 locs1 (hw.back ht hB hS))
theorem xlV_v (FX : CallFix p m c cc nL s args lw_all own) (hw : WS G S s H locs) (hM : EtV l y ws rm G (.ref b :: As) S S' mc ms) (cw : CallW R s args own C index y bytes maxL ret ws rm rm.cells rm.slots n) (hrecv : emb G.2.2.2 S b = some (.inr (ci, fs))) (hC : vwCl[ci]? = some (C, T, N)) (hn : As.length = n) (hl : ls.size = nL) (hst : st0 = As.reverse ++ .ref b :: rest) (hr : 2 * (F0 m pc ls st0).monitorRoom + (rest.map fun v => v.category).sum ≤ 8) (d : decode cc pc = .ok (.invokevirtual index, 3)) (hf : cells + rm.cells ≤ R.cells ∧ slots + rm.slots ≤ R.slots)
    (kk : ∀ (H1 : Heap) (locs1 : List Loc), WS G S' s H1 locs1 → W p l e R s m args below meth c H1 locs1 (cells + mc) (slots + ms) Q (F0 m (pc + 3) ls rest)) : W p l e R s m args below meth c H locs cells slots Q (F0 m pc ls st0) :=
  va_callv (runV2 FX hM cw (pre_V hw hrecv hC) rfl hn hl hst hr d hf) hw.1.2 (fun _ _ h => h) (fun _ h => h) (fun _ t H1 locs1 ht _ _ hB _ _ hS => kk H1 locs1 (hw.back ht hB hS))
theorem xlS_v (FX : CallFix p m c cc nL s args lw_all own) (hw : WS G S s H locs) (hM : EtV l y ws rm G As S S' mc ms) (cw : CallB R s args own index y bytes maxL ret ws rm rm.cells rm.slots n ∧ (Cond.static y).before args s = true) (hn : As.length = n) (hl : ls.size = nL) (hst : st0 = As.reverse ++ rest) (hr : 2 * (F0 m pc ls st0).monitorRoom + (rest.map fun v => v.category).sum ≤ 8) (d : decode cc pc = .ok (.invokestatic index, 3)) (hf : cells + rm.cells ≤ R.cells ∧ slots + rm.slots ≤ R.slots)
    (kk : ∀ (H1 : Heap) (locs1 : List Loc), WS G S' s H1 locs1 → W p l e R s m args below meth c H1 locs1 (cells + mc) (slots + ms) Q (F0 m (pc + 3) ls rest)) : W p l e R s m args below meth c H locs cells slots Q (F0 m pc ls st0) :=
  va_callv (runS2 FX hM cw (pre_S hw) rfl hn hl hst hr d hf) hw.1.2 (fun _ _ h => h) (fun _ h => h) (fun _ t H1 locs1 ht _ _ hB _ _ hS => kk H1 locs1 (hw.back ht hB hS))
theorem xlI_v (FX : CallFix p m c cc nL s args lw_all own) (hw : WS G S s H locs) (hM : EtV l y ws rm G (.ref b :: As) S S' mc ms) (cw : CallB R s args own index y bytes maxL none ws rm rm.cells rm.slots n ∧ y.name = "<init>" ∧ (Cond.instanceMethod y).before args s = true) (hn : As.length = n) (hl : ls.size = nL) (hst : st0 = As.reverse ++ .ref b :: rest) (hr : 2 * (F0 m pc ls st0).monitorRoom + (rest.map fun v => v.category).sum ≤ 8) (d : decode cc pc = .ok (.invokespecial index, 3)) (hf : cells + rm.cells ≤ R.cells ∧ slots + rm.slots ≤ R.slots)
    (kk : ∀ (H1 : Heap) (locs1 : List Loc), WS G S' s H1 locs1 → W p l e R s m args below meth c H1 locs1 (cells + mc) (slots + ms) Q (F0 m (pc + 3) ls rest)) : W p l e R s m args below meth c H locs cells slots Q (F0 m pc ls st0) :=
  va_callv (runI2 FX hM cw (pre_S hw) rfl hn hl hst hr d hf) hw.1.2 (fun _ _ h => h) (fun _ h => h) (fun _ t H1 locs1 ht _ _ hB _ _ hS => kk H1 locs1 (hw.back ht hB hS))
theorem lw_U (h1 : Cond.methodLink own index x ∈ lw_all) (h2 : Cond.sameMethod x.cls owner x.name x.desc ∈ lw_all) (h3 : Cond.selects C x y ∈ lw_all) (h4 : Cond.instanceMethod y ∈ lw_all) (h5 : Cond.initialized y.cls ∈ lw_all) (h6 : Cond.code y bytes maxL ret ∈ lw_all) : GoodIn lw_all (va_wsU own index C owner x y (ws_ y bytes maxL ret)) := by
  refine lw_app ?_ (lw_meth h6)
  intro w hw
  simp only [List.mem_cons, List.not_mem_nil, or_false] at hw
  rcases hw with e | e | e | e | e
  · rw [e]; exact h1
  · rw [e]; exact h2
  · rw [e]; exact h3
  · rw [e]; exact h4
  · rw [e]; exact h5
theorem lw_O (h1 : Cond.methodLink own index x ∈ lw_all) (h2 : Cond.sameMethod x.cls owner x.name x.desc ∈ lw_all) (h0 : Cond.instanceMethod ⟨owner, x.name, x.desc⟩ ∈ lw_all) (h3 : Cond.selects C x y ∈ lw_all) (h4 : Cond.instanceMethod y ∈ lw_all) (h5 : Cond.initialized y.cls ∈ lw_all) (h6 : Cond.code y bytes maxL ret ∈ lw_all) : GoodIn lw_all (va_wsO own index C owner x y (ws_ y bytes maxL ret)) := by
  refine lw_app ?_ (lw_meth h6)
  intro w hw
  simp only [List.mem_cons, List.not_mem_nil, or_false] at hw
  rcases hw with e | e | e | e | e | e
  · rw [e]; exact h1
  · rw [e]; exact h2
  · rw [e]; exact h0
  · rw [e]; exact h3
  · rw [e]; exact h4
  · rw [e]; exact h5
theorem lw_SU (h1 : Cond.methodLink own index y ∈ lw_all) (h2 : Cond.sameMethod y.cls y.cls y.name y.desc ∈ lw_all) (h3 : Cond.superclass own y.cls ∈ lw_all) (h4 : Cond.instanceMethod y ∈ lw_all) (h5 : Cond.initialized y.cls ∈ lw_all) (h6 : Cond.code y bytes maxL ret ∈ lw_all) : GoodIn lw_all (va_wsSU own index y (ws_ y bytes maxL ret)) := by
  refine lw_app ?_ (lw_meth h6)
  intro w hw
  simp only [List.mem_cons, List.not_mem_nil, or_false] at hw
  rcases hw with e | e | e | e | e
  · rw [e]; exact h1
  · rw [e]; exact h2
  · rw [e]; exact h3
  · rw [e]; exact h4
  · rw [e]; exact h5
theorem clU_i0 {r : Int32} (FX : CallFix p m c cc nL s args lw_all own) (hw : WS G S s H locs) (hM : CtI l y ws rm G (.ref b :: As) S r S') (cw : va_CU R s args own C owner index x y bytes maxL ret ws rm rm.cells rm.slots n) (hrecv : emb G.2.2.2 S b = some (.inr (ci, fs))) (hC : vwCl[ci]? = some (C, T, N)) (hn : As.length = n) (hl : ls.size = nL) (hst : st0 = As.reverse ++ .ref b :: rest) (hr : 2 * (F0 m pc ls st0).monitorRoom + (rest.map fun v => v.category).sum ≤ 8) (d : decode cc pc = .ok (.invokevirtual index, 3)) (hz : rm.cells = 0 ∧ rm.slots = 0) (hf : cells ≤ R.cells ∧ slots ≤ R.slots)
    (kk : ∀ (H1 : Heap) (locs1 : List Loc), WS G S' s H1 locs1 → W p l e R s m args below meth c H1 locs1 cells slots Q (F0 m (pc + 3) ls (.int r :: rest))) : W p l e R s m args below meth c H locs cells slots Q (F0 m pc ls st0) :=
  va_calli (va_runU FX hM cw (pre_V hw hrecv hC) rfl hn hl hst hr d (by rw [hz.1, hz.2]; exact hf)) hw.1.2 (fun _ _ h => h) (fun _ h => h) (fun v _ t H1 locs1 ht _ hv hB _ _ hS => by subst hv; rw [hz.1, hz.2]; exact kk H1 locs1 (hw.back ht hB hS))
theorem clU_v0 (FX : CallFix p m c cc nL s args lw_all own) (hw : WS G S s H locs) (hM : CtV l y ws rm G (.ref b :: As) S S') (cw : va_CU R s args own C owner index x y bytes maxL ret ws rm rm.cells rm.slots n) (hrecv : emb G.2.2.2 S b = some (.inr (ci, fs))) (hC : vwCl[ci]? = some (C, T, N)) (hn : As.length = n) (hl : ls.size = nL) (hst : st0 = As.reverse ++ .ref b :: rest) (hr : 2 * (F0 m pc ls st0).monitorRoom + (rest.map fun v => v.category).sum ≤ 8) (d : decode cc pc = .ok (.invokevirtual index, 3)) (hz : rm.cells = 0 ∧ rm.slots = 0) (hf : cells ≤ R.cells ∧ slots ≤ R.slots)
    (kk : ∀ (H1 : Heap) (locs1 : List Loc), WS G S' s H1 locs1 → W p l e R s m args below meth c H1 locs1 cells slots Q (F0 m (pc + 3) ls rest)) : W p l e R s m args below meth c H locs cells slots Q (F0 m pc ls st0) :=
  va_callv (va_runU FX hM cw (pre_V hw hrecv hC) rfl hn hl hst hr d (by rw [hz.1, hz.2]; exact hf)) hw.1.2 (fun _ _ h => h) (fun _ h => h) (fun _ t H1 locs1 ht _ _ hB _ _ hS => by rw [hz.1, hz.2]; exact kk H1 locs1 (hw.back ht hB hS))
theorem clSU_i0 {r : Int32} (FX : CallFix p m c cc nL s args lw_all own) (hw : WS G S s H locs) (hM : CtI l y ws rm G (.ref b :: As) S r S') (cw : va_CS R s args own index y bytes maxL ret ws rm rm.cells rm.slots n) (hrecv : emb G.2.2.2 S b = some (.inr (ci, fs))) (hC : vwCl[ci]? = some (C, T, N)) (hn : As.length = n) (hl : ls.size = nL) (hst : st0 = As.reverse ++ .ref b :: rest) (hr : 2 * (F0 m pc ls st0).monitorRoom + (rest.map fun v => v.category).sum ≤ 8) (d : decode cc pc = .ok (.invokespecial index, 3)) (hz : rm.cells = 0 ∧ rm.slots = 0) (hf : cells ≤ R.cells ∧ slots ≤ R.slots)
    (kk : ∀ (H1 : Heap) (locs1 : List Loc), WS G S' s H1 locs1 → W p l e R s m args below meth c H1 locs1 cells slots Q (F0 m (pc + 3) ls (.int r :: rest))) : W p l e R s m args below meth c H locs cells slots Q (F0 m pc ls st0) :=
  va_calli (va_runSU (hw.1.1.2.1.1.1 ci _ hC).2 FX hM cw (pre_V hw hrecv hC) rfl hn hl hst hr d (by rw [hz.1, hz.2]; exact hf)) hw.1.2 (fun _ _ h => h) (fun _ h => h) (fun v _ t H1 locs1 ht _ hv hB _ _ hS => by subst hv; rw [hz.1, hz.2]; exact kk H1 locs1 (hw.back ht hB hS))
theorem ekI {ty : FieldType} {r : Int32} (hy : plainName y.cls = true) (hL : (lg_sl As).length ≤ maxL) (body : ∀ (p : Program) (e : Env) (s : State) (m : MethodId) (a : Array Value) (below : List Frame) (meth : Method) (c : Code) (Q : State → Prop), CallFix p m c cc maxL s a lw_all y.cls → WS G S s s.heap [] → meth.name = y.name → (∀ {H : Heap} {locs : List Loc} {pc : Nat} {ls : Array Slot} (v : Int32) (S1 : ST), narrow ty (.int v) = .int v → v = r → S1 = S' → WS G S1 s H locs → decode cc pc = .ok (.ireturn, 1) → W p l e rm s m a below meth c H locs mc ms Q (F0 m pc ls [.int v])) → ∀ ls : Array Slot, lv_has ls maxL (lv_args 0 As) → W p l e rm s m a below meth c s.heap [] 0 0 Q (F0 m 0 ls [])) : EtI l y (ws_ y cc maxL (some ty)) rm G As S r S' mc ms := by
  refine mk_of (ret := some ty) hy hL fun p e s m a below meth c FX hw hname hret hlocks ls hl => ?_
  refine body p e s m a below meth c _ FX hw hname (fun v S1 hn hv hs hw d => ?_) ls hl
  subst hv; subst hs
  exact W.zret FX.1 FX.2.1 hret hn (fun t ht hW => ⟨⟨v, (), rfl, rfl, hw.toD ht hW⟩, hw.1.2.F ht⟩) hw.1.2.2.2 d
theorem ekL {r : Int64} (hy : plainName y.cls = true) (hL : (lg_sl As).length ≤ maxL) (body : ∀ (p : Program) (e : Env) (s : State) (m : MethodId) (a : Array Value) (below : List Frame) (meth : Method) (c : Code) (Q : State → Prop), CallFix p m c cc maxL s a lw_all y.cls → WS G S s s.heap [] → meth.name = y.name → (∀ {H : Heap} {locs : List Loc} {pc : Nat} {ls : Array Slot} (v : Int64) (S1 : ST), v = r → S1 = S' → WS G S1 s H locs → decode cc pc = .ok (.lreturn, 1) → W p l e rm s m a below meth c H locs mc ms Q (F0 m pc ls [.long v])) → ∀ ls : Array Slot, lv_has ls maxL (lv_args 0 As) → W p l e rm s m a below meth c s.heap [] 0 0 Q (F0 m 0 ls [])) : EtL l y (ws_ y cc maxL (some .long)) rm G As S r S' mc ms := by
  refine mk_of (ret := some .long) hy hL fun p e s m a below meth c FX hw hname hret hlocks ls hl => ?_
  refine body p e s m a below meth c _ FX hw hname (fun v S1 hv hs hw d => ?_) ls hl
  subst hv; subst hs
  exact W.lret FX.1 FX.2.1 hret (fun t ht hW => ⟨⟨v, (), rfl, rfl, hw.toD ht hW⟩, hw.1.2.F ht⟩) hw.1.2.2.2 d
theorem ekV (hy : plainName y.cls = true) (hL : (lg_sl As).length ≤ maxL) (body : ∀ (p : Program) (e : Env) (s : State) (m : MethodId) (a : Array Value) (below : List Frame) (meth : Method) (c : Code) (Q : State → Prop), CallFix p m c cc maxL s a lw_all y.cls → WS G S s s.heap [] → meth.name = y.name → (∀ {H : Heap} {locs : List Loc} {pc : Nat} {ls : Array Slot} (S1 : ST), S1 = S' → WS G S1 s H locs → decode cc pc = .ok (.return_, 1) → W p l e rm s m a below meth c H locs mc ms Q (F0 m pc ls [])) → ∀ ls : Array Slot, lv_has ls maxL (lv_args 0 As) → W p l e rm s m a below meth c s.heap [] 0 0 Q (F0 m 0 ls [])) : EtV l y (ws_ y cc maxL none) rm G As S S' mc ms := by
  refine mk_of (ret := none) hy hL fun p e s m a below meth c FX hw hname hret hlocks ls hl => ?_
  refine body p e s m a below meth c _ FX hw hname (fun S1 hs hw d => ?_) ls hl
  subst hs
  exact W.vret FX.1 FX.2.1 hret (fun t ht hW => ⟨⟨(), rfl, trivial, hw.toD ht hW⟩, hw.1.2.F ht⟩) hw.1.2.2.2 d
theorem ekQ {rt : FieldType} {r : Option Nat} (hy : plainName y.cls = true) (hL : (lg_sl As).length ≤ maxL) (hrt : (∃ n, rt = .object n) ∨ ∃ t, rt = .array t) (body : ∀ (p : Program) (e : Env) (s : State) (m : MethodId) (a : Array Value) (below : List Frame) (meth : Method) (c : Code) (Q : State → Prop), CallFix p m c cc maxL s a lw_all y.cls → WS G S s s.heap [] → meth.name = y.name → (∀ {H : Heap} {locs : List Loc} {pc : Nat} {ls : Array Slot} (v : Option Nat) (S1 : ST), v = r → S1 = S' → WS G S1 s H locs → decode cc pc = .ok (.areturn, 1) → W p l e rm s m a below meth c H locs mc ms Q (F0 m pc ls [va_rf v])) → ∀ ls : Array Slot, lv_has ls maxL (lv_args 0 As) → W p l e rm s m a below meth c s.heap [] 0 0 Q (F0 m 0 ls [])) : EtQ l y (ws_ y cc maxL (some rt)) rm G As S r S' mc ms := by
  refine mk_of (ret := some rt) hy hL fun p e s m a below meth c FX hw hname hret hlocks ls hl => ?_
  refine body p e s m a below meth c _ FX hw hname (fun v S1 hv hs hw d => ?_) ls hl
  subst hv; subst hs
  exact W.aret FX.1 FX.2.1 hret hrt (by cases v with | none => exact Or.inl rfl | some x => exact Or.inr ⟨x, rfl⟩) (fun t ht hW => ⟨⟨v, (), rfl, rfl, hw.toD ht hW⟩, hw.1.2.F ht⟩) hw.1.2.2.2 d
end B8
