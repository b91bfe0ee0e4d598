/-! an exception caught by a class that may not be resolved yet; methods with handlers; holdOf -/
section CAU
variable {e : Env} {s : State} {f : JFrame} {a : Addr}
theorem fh_cold {E : CtlPost} {d : Bool} {acts : List Action} {Q : Handler → Pre} {x : ExceptionTableEntry} {t : List ExceptionTableEntry} {c : ClassId} {cell : Cell} {vm' : Vm} (hx : covers x f.pc = true) (h0 : x.catchType ≠ 0)
    (hg : (Jvm.resolveClass f.method.cls x.catchType).Gives e.toSetting s.vm (.ok c) vm') (hsz : vm'.classes.size ≤ s.vm.classes.size) (hcell : s.heap[a]? = some cell) (hobj : ∀ k, cell.vm ≠ .statics k)
    (hk : ∃ k, vm'.classes[cell.cls]? = some k) (hc : ∃ k, vm'.classes[c]? = some k) (hfit : vm'.assignable cell.cls c = true) :
    wp (findHandler.go f a (x :: t)) Q E e d acts s ↔ Q (.found x.handlerPc) d acts (s.setVm vm') := by
  obtain ⟨ha, ht⟩ := hg.op (op := VmOp.resolveClass f.method.cls x.catchType) rfl
  simp only [covers] at hx
  have hcell' : (s.setVm vm').heap[a]? = some cell := hcell
  simp [findHandler.go, hx, h0, ha, ht, hsz, hcell, hcell', hobj, hk, hc, hfit, VmOp.dirties, VmOp.acts]
/-- what the search gives, and the tables that it leaves -/
def FindsC (e : Env) (s : State) (f : JFrame) (a : Addr) (h : Handler) (vm' : Vm) : Prop := ∀ (Q : Handler → Pre) (E : CtlPost) (d : Bool) (acts : List Action), wp (findHandler f a) Q E e d acts s ↔ Q h d acts (s.setVm vm')
theorem fh_of {meth : Method} {code : Code} {x : ExceptionTableEntry} {rest : List ExceptionTableEntry} {c : ClassId} {cell : Cell} {vm' : Vm} (hm : s.vm.method? f.method = some meth) (hcd : meth.code = some code) (htab : code.exceptionTable.toList = x :: rest) (hx : covers x f.pc = true) (h0 : x.catchType ≠ 0)
    (hg : (Jvm.resolveClass f.method.cls x.catchType).Gives e.toSetting s.vm (.ok c) vm') (hsz : vm'.classes.size ≤ s.vm.classes.size) (hcell : s.heap[a]? = some cell) (hobj : ∀ k, cell.vm ≠ .statics k)
    (hk : ∃ k, vm'.classes[cell.cls]? = some k) (hc : ∃ k, vm'.classes[c]? = some k) (hfit : vm'.assignable cell.cls c = true) : FindsC e s f a (.found x.handlerPc) vm' := by
  intro Q E d acts
  rw [W.findHandler_eq hm hcd, htab]
  exact fh_cold hx h0 hg hsz hcell hobj hk hc hfit
theorem stC_catch {r : List Frame} {pc : Nat} {vm' : Vm} (hfind : FindsC e s f a (.found pc) vm') : (stepThrowing e s a (.java f :: r)).Is ((s.setVm vm').setFrames (.java { f with pc := pc, stack := [.ref a] } :: r)) [] := by
  simp only [stepThrowing, searchFrame, vmDo]
  generalize hr : Sem.go _ e false [] s = res
  obtain ⟨as, rfl, ha⟩ := Sem.eq_ok_of hr (a := Handler.found pc) (s' := s.setVm vm') (acts' := []) (by simp [hfind _ _ _ _])
  exact ⟨rfl, ha⟩
theorem caughtC {tb : Tables} {target : State} {g : JFrame} {c : Code} {below : List Frame} {pc : Nat} {vm' : Vm} (h : At s g.method c below) (hfind : FindsC e ((s.setTop g).pushFrame (.throwing a)) g a (.found pc) vm')
    (hrest : Steps tb e below ((s.setVm vm').setTop { g with pc := pc, stack := [.ref a] }) target) : Steps tb e below ((s.setTop g).pushFrame (.throwing a)) target := by
  obtain ⟨hgo, hw⟩ := h.throwing a
  refine Steps.head hgo hw ?_
  rw [stepThread_throwing (frames_entered h.top _), (stC_catch (s := (s.setTop g).pushFrame (.throwing a)) hfind).1]
  obtain ⟨g₀, hg⟩ := Option.isSome_iff_exists.mp h.top
  obtain ⟨r, hr⟩ := State.topJava?_eq_some.mp hg
  have hr' : (s.setVm vm').frames = .java g₀ :: r := hr
  rw [State.setTop_of_frames _ hr'] at hrest
  have e1 : (((s.setTop g).pushFrame (.throwing a)).setVm vm').setFrames (.java { g with pc := pc, stack := [.ref a] } :: s.frames.tail) = (s.setVm vm').setFrames (.java { g with pc := pc, stack := [.ref a] } :: r) := by
    rw [State.pushFrame, State.setFrames_setVm, State.setFrames_setFrames, State.setTop_of_frames _ hr, State.setFrames_setVm, State.setFrames_setFrames, hr]
    rfl
  rw [e1]
  exact hrest
end CAU
/-- the contract of a method with handlers -/
def CtW (l : Launch) (y : MethodName) (cc : ByteArray) (nL : Nat) (ret : Option FieldType) (hh : List (Nat × Nat × Nat × Nat)) (E : EE) (f L : Nat) (av : List Value) (γ : GG) (post : Option Value → GG → Prop) (mc ms : Nat) : Prop :=
  Met l y (wsW_ y cc nL ret hh) { frames := f, cells := mc, slots := ms, locals := L } (PG E av γ) (QG E post) mc ms (fun q => E.bs ≤ q)
abbrev tabOf (c : Code) (hh : List (Nat × Nat × Nat × Nat)) : Prop := c.exceptionTable.toList.map (fun h => (h.startPc, h.endPc, h.handlerPc, h.catchType)) = hh
theorem CtW.of {l : Launch} {y : MethodName} {cc : ByteArray} {nL : Nat} {ret : Option FieldType} {hh : List (Nat × Nat × Nat × Nat)} {E : EE} {f L : Nat} {av : List Value} {γ : GG} {post : Option Value → GG → Prop} {mc ms : Nat} (hE : EOk E) (hy : plainName y.cls = true) (hlen : (lg_sl av).length ≤ nL)
    (body : ∀ Φ : PH, Φ.l = l → Φ.E = E → Fx Φ cc y.cls nL ret post mc ms → tabOf Φ.c hh → f ≤ Φ.R.frames → L ≤ Φ.R.locals → Wg Φ nL γ 0 0 0 (lv_args 0 av) []) : CtW l y cc nL ret hh E f L av γ post mc ms := by
  refine va_MetW (cc := cc) (maxL := nL) (ret := ret) (hh := hh) hy rfl ?_
  intro p e s m args below meth c s₁ B hml hv
  obtain ⟨rfl, hW, hK⟩ := hv
  have hts0 := atoms_spec (ws := wsW_ y cc nL ret hh) B.pre
  have hts : ∀ w ∈ lw_all, w.before _ s = true := fun w h => hts0 w (List.mem_cons_of_mem _ h)
  have hown : s.vm.findClass y.cls = some m.cls := findClass_of_methodNamed B.named
  have htab : tabOf c hh := by
    obtain ⟨m9, meth', c', hn9, hm', hc', -, -, ht, -⟩ := Cond.codeWith_spec (hts0 _ List.mem_cons_self)
    cases B.named.symm.trans hn9
    cases B.method.symm.trans hm'
    cases (Stand.of_body B).code.symm.trans hc'
    exact ht
  have hl := lv_entry av (n := nL) hlen
  rw [lg_entry_eq]
  exact body (p, l, e, _, s, m, av.toArray, below, meth, c, _, E) rfl rfl ⟨B.exec, B.bytes, hml, hown, hts, B.returns, B.notSynchronized, hE, hK, hW.2.2.1, fun _ h => h, rfl, rfl⟩ htab (Nat.le_refl _) (Nat.le_refl _) _ _ _ hW va_S.rf hl
section CAW
variable {Φ : PH} {cc : ByteArray} {own : String} {nL : Nat} {ret : Option FieldType} {post : Option Value → GG → Prop} {mc ms : Nat} {γ : GG} {k n pc : Nat} {lv lv' : List (Nat × Value)} {st rest : List Value}
theorem w_callSNW (F : Fx Φ cc own nL ret post mc ms) {y : MethodName} {cy : ByteArray} {ny : Nat} {ry : Option FieldType} {hh : List (Nat × Nat × Nat × Nat)} {f L : Nat} {As : List Value} {py : Option Value → GG → Prop} {kc ks : Nat}
    (hM : CtW Φ.l y cy ny ry hh Φ.E f L As γ py kc ks) {index nA : Nat} {host : String} (hlk : Cond.methodLinkNest own index y host ∈ lw_tbl) (hstt : Cond.static y ∈ lw_all) (hini : Cond.initialized y.cls ∈ lw_all) (hcw : Cond.codeWith y cy ny ry hh ∈ lw_all) (hd : MdOk y nA)
    (hn : As.length = nA) (hst : st = As.reverse ++ rest) (hcat : (rest.map fun v => v.category).sum ≤ 8) (hdg : decode cc pc = .ok (.invokestatic index, 3)) (hR : f + 1 ≤ Φ.R.frames ∧ 8 + (ny + 11) + L ≤ Φ.R.locals) (hf : k + kc ≤ Φ.R.cells ∧ n + ks ≤ Φ.R.slots)
    (kk : ∀ (v : Option Value) (γ' : GG), py v γ' → Wg Φ nL γ' (k + kc) (n + ks) (pc + 3) lv (v.toList ++ rest)) : Wg Φ nL γ k n pc lv st := by
  refine w_run F (py := py) (kc := kc) (ks := ks) (a := As.toArray) (fun H locs ls hW hls => ?_) kk
  have hi := F.ts _ hini
  have hK : Back Φ.l Φ.R Φ.p Φ.e Φ.below Φ.s Φ.args y 3 8 (PreOf Φ.R kc ks (PG Φ.E As γ)) (PostOf (QG Φ.E py) kc ks (fun q => Φ.E.bs ≤ q)) := va_backW (hh := hh) (bytes := cy) (maxL := ny) (ret := ry) hM (PG.blind _ _ _) rfl rfl hR.1 hR.2 (pay_in F.ts (lw_methW hcw)) List.mem_cons_self (fun a' U hW => word_at hW (Or.inl (by first | rfl | simp [Cond.onTables, Cond.keeps, Cond.steady])) hi)
  intro T hT X
  obtain ⟨mk, methM, cM, hnamed, hmethM, -, -, -, -, -, -, hsigM⟩ := Cond.codeWith_spec (F.ts _ hcw)
  have hstatic : methM.isStatic = true := Cond.static_spec hnamed hmethM (F.ts _ hstt)
  obtain ⟨kP, hkP, -⟩ := className_of_methodNamed hnamed
  have hinitP : kP.init = .initialized := Cond.initialized_spec (findClass_of_methodNamed hnamed) hkP hi
  obtain ⟨vm₁, X₁, hstep₁⟩ := X.invokestaticNest F.x F.ow (va_Nw.use rfl (va_Nw.warmM F.wm (F.ok.2.2 _ hlk))) hnamed hmethM hstatic hkP hinitP ⟨hd.1, hd.2.1⟩ (g := F0 Φ.m pc ls st) rfl (argsL := As) (rest := rest) (by
    have h2 := hd.2.2
    rw [hsigM] at h2
    rw [hn]
    exact (Option.some.inj h2).symm) hst (by rw [F.b]; exact hdg)
  obtain ⟨v, ⟨U', l2, c2, s2⟩, X', ⟨g', mk', t, L', e1, e2, hq, h1, hL, h2, h3⟩, hsteps⟩ := hK Φ.m Φ.meth Φ.c ⟨T.setVm vm₁, locs, k, n⟩ { (F0 Φ.m pc ls st) with stack := rest } (.invokestatic index) mk As.toArray X₁ rfl (hls.trans F.ml.symm) (by rw [F.b]; exact hdg) (lv_room hcat) (X₁.named hnamed) ⟨hf.1, hf.2, hW.pre F.wm (T.setVm vm₁) hT X₁.warmed⟩
  dsimp only [Pt.U, Pt.locs, Pt.cells, Pt.slots] at X' e1 e2 h1 h2 h3 hsteps
  subst h1; subst h2; subst h3
  exact ⟨v, (T.setVm vm₁).calling g' mk' As.toArray, t, U', L', hT, X', hL, e1, e2, hq, fun target h => hstep₁ _ fun acts => by rw [doInvoke_state]; exact hsteps.trans h⟩
theorem w_callVW (F : Fx Φ cc own nL ret post mc ms) {y : MethodName} {cy : ByteArray} {ny : Nat} {ry : Option FieldType} {hh : List (Nat × Nat × Nat × Nat)} {f L : Nat} {As : List Value} {key : Nat} {py : Option Value → GG → Prop} {kc ks : Nat}
    (hM : CtW Φ.l y cy ny ry hh Φ.E f L (.ref (Φ.E.ad key) :: As) γ py kc ks) {index nA : Nat} (hlk : Cond.methodLink own index y ∈ lw_all) (hin : Cond.instanceMethod y ∈ lw_all) (hsel : Cond.selects y.cls y y ∈ lw_all) (hini : Cond.initialized y.cls ∈ lw_all) (hcw : Cond.codeWith y cy ny ry hh ∈ lw_all) (hd : MdOk y nA) (hkey : key < Φ.E.nk) {ci : Nat} {fs : List Value} (hcell : cellOf Φ.E γ key = .inr (ci, fs)) {q : vw_C} (hc : vwCl[ci]? = some q) (hq : q.1 = y.cls)
    (hn : As.length = nA) (hst : st = As.reverse ++ .ref (Φ.E.ad key) :: rest) (hcat : (rest.map fun v => v.category).sum ≤ 8) (hdg : decode cc pc = .ok (.invokevirtual index, 3)) (hR : f + 1 ≤ Φ.R.frames ∧ 8 + (ny + 11) + L ≤ Φ.R.locals) (hf : k + kc ≤ Φ.R.cells ∧ n + ks ≤ Φ.R.slots)
    (kk : ∀ (v : Option Value) (γ' : GG), py v γ' → Wg Φ nL γ' (k + kc) (n + ks) (pc + 3) lv (v.toList ++ rest)) : Wg Φ nL γ k n pc lv st := by
  refine w_run F (py := py) (kc := kc) (ks := ks) (a := (Value.ref (Φ.E.ad key) :: As).toArray) (fun H locs ls hW hls => ?_) kk
  have hi := F.ts _ hini
  have hK : Back Φ.l Φ.R Φ.p Φ.e Φ.below Φ.s Φ.args y 3 8 (PreOf Φ.R kc ks (PG Φ.E (.ref (Φ.E.ad key) :: As) γ)) (PostOf (QG Φ.E py) kc ks (fun q => Φ.E.bs ≤ q)) := va_backW (hh := hh) (bytes := cy) (maxL := ny) (ret := ry) hM (PG.blind _ _ _) rfl rfl hR.1 hR.2 (pay_in F.ts (lw_methW hcw)) List.mem_cons_self (fun a' U hW => word_at hW (Or.inl (by first | rfl | simp [Cond.onTables, Cond.keeps, Cond.steady])) hi)
  obtain ⟨cellB, hcB, hoB, hclB⟩ := recvOf F hW hkey hcell hc
  rw [hq] at hclB
  intro T hT X
  obtain ⟨mk, methM, hnamed, hmethM, hstM, habM⟩ := Cond.instanceMethod_spec (F.ts _ hin)
  obtain ⟨mk', methM', cM, hnamed', hmethM', -, -, -, -, -, -, hsigM⟩ := Cond.codeWith_spec (F.ts _ hcw)
  cases hnamed.symm.trans hnamed'
  cases hmethM.symm.trans hmethM'
  obtain ⟨c2, r2, m2, q1, q2, q3, q4, kP, hkP, hkPi⟩ := Cond.selects_spec (F.ts _ hsel)
  cases hclB.symm.trans q1
  cases (State.methodFound?_of_named hnamed ⟨hd.1, hd.2.1⟩).symm.trans q2
  cases hnamed.symm.trans q3
  have hselP : selectMethod Φ.e.platform Φ.s.vm cellB.cls mk = .method mk := by rw [Launch.admits_selectMethod X.admits]; exact q4
  obtain ⟨vm₁, X₁, hstep₁⟩ := X.invokevirtual F.x F.ow (F.ts _ hlk) hnamed hmethM hstM hkP hkPi ⟨hd.1, hd.2.1⟩ (a := Φ.E.ad key) (cell := cellB) (by rw [hT]; exact hcB)
    (fun z h => by rw [h] at hoB; cases hoB) hselP hmethM habM hkP hkPi (g := F0 Φ.m pc ls st) rfl (argsL := As) (rest := rest) (by
    have h2 := hd.2.2
    rw [hsigM] at h2
    rw [hn]
    exact (Option.some.inj h2).symm) hst (by rw [F.b]; exact hdg)
  obtain ⟨v, ⟨U', l2, c2', s2⟩, X', ⟨g', mk2, t, L', e1, e2, hq', h1, hL, h2, h3⟩, hsteps⟩ := hK Φ.m Φ.meth Φ.c ⟨T.setVm vm₁, locs, k, n⟩ { (F0 Φ.m pc ls st) with stack := rest } (.invokevirtual index) mk (Value.ref (Φ.E.ad key) :: As).toArray X₁ rfl (hls.trans F.ml.symm) (by rw [F.b]; exact hdg) (lv_room hcat) (X₁.named hnamed) ⟨hf.1, hf.2, hW.pre F.wm (T.setVm vm₁) hT X₁.warmed⟩
  dsimp only [Pt.U, Pt.locs, Pt.cells, Pt.slots] at X' e1 e2 h1 h2 h3 hsteps
  subst h1; subst h2; subst h3
  exact ⟨v, (T.setVm vm₁).calling g' mk2 (Value.ref (Φ.E.ad key) :: As).toArray, t, U', L', hT, X', hL, e1, e2, hq', fun target h => hstep₁ _ fun acts => by rw [doInvoke_state]; exact hsteps.trans h⟩
/-- a field of null, the exception caught by the one handler -/
theorem w_npeC (F : Fx Φ cc own nL ret post mc ms) (hN : StOk Φ.E) (hfl : Φ.l.flags = flags0) {x : ExceptionTableEntry} (htab : Φ.c.exceptionTable.toList = [x]) (hcov : covers x pc = true) (h0 : x.catchType ≠ 0) (hcl : Cond.classLink own x.catchType "java/lang/NullPointerException" ∈ lw_all)
    {ci N : Nat} {C : String} {T : u_T} (hc : vwCl[ci]? = some (C, T, N)) (hin : ∀ w ∈ u_ws C T N, w ∈ lw_all) (f : Nat) (hf : f < N) {index : Nat} (hlink : lnk own index (T f)) (hdg : decode cc pc = .ok (.getfield index, 3)) (hcat : (st.map fun v => v.category).sum ≤ 8) (hR : 10 ≤ Φ.R.frames ∧ 12000 ≤ Φ.R.locals) (hfit : k + 1 ≤ Φ.R.cells ∧ n + 8 ≤ Φ.R.slots)
    (h : ∀ a : Nat, Wg Φ nL γ (k + 1) (n + 8) x.handlerPc lv [.ref a]) : Wg Φ nL γ k n pc lv (.null :: st) := by
  intro H locs ls hW hS hl T0 hT X
  have hwords := npe_at F hN (F.old hW hS)
  have htr : Φ.e.platform.stackTraces = false := by
    rw [X.admits.platform]
    show Φ.l.stackTraces = false
    unfold Launch.stackTraces
    rw [hfl]
    decide +kernel
  have hpl : Φ.e.platform.magicAccessors = ({} : Platform).magicAccessors := by rw [X.admits.platform]
  obtain ⟨hSl, hfc, kC, hkC, hkind⟩ := F.K.1 ci _ hc
  obtain ⟨cf, kf, fi, fd, hi, hsl⟩ := hSl f hf
  have hst := (u_facts hfc hkC (u_lays F.ts hin hf) hi).1
  have hg1 : ∃ vm', Stand Φ.p Φ.l Φ.e Φ.R Φ.s Φ.m Φ.args Φ.below Φ.meth Φ.c (T0.setVm vm') locs k n ∧ ∀ target, Steps Φ.p.tables Φ.e Φ.below (((T0.setVm vm').setTop { (F0 Φ.m pc ls (.null :: st)) with stack := st }).pushFrame (.throwNew "java/lang/NullPointerException" none none)) target → Steps Φ.p.tables Φ.e Φ.below (T0.setTop (F0 Φ.m pc ls (.null :: st))) target := by
    rcases hlink with q | q
    · exact X.getfieldNull F.x F.ow (F.ts _ q) hi hst rfl rfl (by rw [F.b]; exact hdg)
    · exact X.getfieldNullNest F.x F.ow (F.nest q) hi hst rfl rfl (by rw [F.b]; exact hdg)
  obtain ⟨vm1, X1, st1⟩ := hg1
  obtain ⟨U, cell, X2, hsz, hold, hcell, hvm, hcls, st2⟩ := npeTo X1 F.x htr hwords (fun cT kT a1 e1 e2 e3 => by
      obtain ⟨c9, k9, i9, f9, a9, cell9, hc9, hi9, hst9, ha9, hcell9, -⟩ := Cond.laysStatic_spec (F.ok.2.2 _ q333)
      have ec : Φ.s.vm.findClass Bundle.tN = some c9 := by rw [F.wm.alike.findClass]; exact hc9
      cases ec.symm.trans e1
      obtain ⟨hk9, -⟩ := State.fieldFound?_spec hi9
      obtain ⟨k9', hk9', he9⟩ := F.wm.alike.2.2 _ _ hk9
      cases hk9'.symm.trans e2
      have ea : a9 = a1 := by
        rw [he9] at e3
        exact Option.some.inj (ha9.symm.trans e3)
      subst ea
      have hlt : a9 < Φ.E.bs := (Array.getElem?_eq_some_iff.mp hcell9).1
      show T0.heap[a9]? = _
      rw [hT]
      exact hS.2.1 a9 (Nat.lt_of_lt_of_le hlt F.bs) (Nat.not_le.mpr hlt)) (g := F0 Φ.m pc ls st) rfl (hl.1.trans F.ml.symm) (by omega) (by show 2 * 0 + (st.map fun v => v.category).sum + 10240 ≤ Φ.R.locals; omega) hfit.1 hfit.2
  obtain ⟨cN, hcN, hclk⟩ := Cond.classLink_spec F.ow (F.ts _ hcl) Φ.e.platform hpl
  cases hcN.symm.trans hcls
  have hcl₀ := X2.warmed.classLinks hclk
  obtain ⟨dk, _, _, kt, hd, _, _, _, _, hkt, _, hopen⟩ := hclk.here
  have hW' : Φ.s.WarmedH (U.vm.noted Φ.m.cls x.catchType (.cls cell.cls)) := X2.warmed.noted hd hopen (State.rightAt_cls hclk)
  obtain ⟨kt', hkt', -⟩ := hW'.alike.2.2 _ _ hkt
  have hself : (U.vm.noted Φ.m.cls x.catchType (.cls cell.cls)).assignable cell.cls cell.cls = true := by
    rw [hW'.alike.assignable]
    have hcs : (Cond.castable Bundle.nN Bundle.nN).before Φ.args Φ.s = true := va_Nw.use rfl (va_Nw.warmC F.wm (F.ok.2.2 _ q638))
    obtain ⟨c3, c4, hc3, hc4, hasg⟩ := Cond.castable_spec hcs
    cases hc3.symm.trans hcls
    cases hc4.symm.trans hcls
    exact hasg
  have X3 := X2.noted hW'
  have hold' : ∀ q : Nat, q < H.size → U.heap[q]? = H[q]? := fun q hq => by
    have := hold q (by show q < T0.heap.size; rw [hT]; exact hq)
    rw [this]
    show T0.heap[q]? = _
    rw [hT]
  have hz : H.size ≤ U.heap.size := by
    rw [hsz]
    show H.size ≤ T0.heap.size + 1
    rw [hT]
    omega
  have hS' : va_S (fun q => Φ.E.bs ≤ q) Φ.s.heap U.heap locs := ⟨Nat.le_trans hS.1 hz, fun q q1 q2 => by rw [hold' q (Nat.lt_of_lt_of_le q1 hS.1)]; exact hS.2.1 q q1 q2, hS.2.2⟩
  obtain ⟨t, a1, b1⟩ := h (T0.setVm vm1).heap.size U.heap locs ls (hW.grow hz hold') hS' hl (U.setVm (U.vm.noted Φ.m.cls x.catchType (.cls cell.cls))) rfl X3
  refine ⟨t, st1 _ (st2 _ (caughtC (a := (T0.setVm vm1).heap.size) X2.here (vm' := U.vm.noted Φ.m.cls x.catchType (.cls cell.cls)) (pc := x.handlerPc) ?_ a1)), b1⟩
  have hvm2 : ((U.setTop (F0 Φ.m pc ls st)).pushFrame (.throwing (T0.setVm vm1).heap.size)).vm = U.vm := Stand.throwing_vm U _ _
  have hheap2 : ((U.setTop (F0 Φ.m pc ls st)).pushFrame (.throwing (T0.setVm vm1).heap.size)).heap = U.heap := Stand.throwing_heap U _ _
  refine fh_of (meth := Φ.meth) (code := Φ.c) (rest := []) (c := cell.cls) (cell := cell) (by rw [hvm2]; exact X2.method') X2.code htab hcov h0 (by rw [hvm2]; exact resolveClass_links Φ.e.toSetting hcl₀) (by rw [hvm2]; no_record) (by rw [hheap2]; exact hcell) (fun z hz => by rw [hvm] at hz; cases hz) ⟨_, hkt'⟩ ⟨_, hkt'⟩ hself
end CAW
