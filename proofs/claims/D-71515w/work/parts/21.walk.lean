/-! the abstract walk: heap, written places and locals hidden -/
/-- what holds of E once and for all: addresses apart, classes known, the tables' words at the law's start -/
def EOk (E : EE) : Prop := AdOk E ∧ va_K E.D vwCl (tysOf E.cA) E.S ∧ (∀ w ∈ lw_tbl, w.before #[] E.S = true)
abbrev PH : Type := Program × Launch × Env × Room × State × MethodId × Array Value × List Frame × Method × Code × (State → Prop) × EE
abbrev PH.p (Φ : PH) : Program := Φ.1
abbrev PH.l (Φ : PH) : Launch := Φ.2.1
abbrev PH.e (Φ : PH) : Env := Φ.2.2.1
abbrev PH.R (Φ : PH) : Room := Φ.2.2.2.1
abbrev PH.s (Φ : PH) : State := Φ.2.2.2.2.1
abbrev PH.m (Φ : PH) : MethodId := Φ.2.2.2.2.2.1
abbrev PH.args (Φ : PH) : Array Value := Φ.2.2.2.2.2.2.1
abbrev PH.below (Φ : PH) : List Frame := Φ.2.2.2.2.2.2.2.1
abbrev PH.meth (Φ : PH) : Method := Φ.2.2.2.2.2.2.2.2.1
abbrev PH.c (Φ : PH) : Code := Φ.2.2.2.2.2.2.2.2.2.1
abbrev PH.Q (Φ : PH) : State → Prop := Φ.2.2.2.2.2.2.2.2.2.2.1
abbrev PH.E (Φ : PH) : EE := Φ.2.2.2.2.2.2.2.2.2.2.2
/-- W at a frame of this invocation -/
abbrev WW (Φ : PH) (H : Heap) (locs : List Loc) (k n : Nat) (g : JFrame) : Prop := W Φ.p Φ.l Φ.e Φ.R Φ.s Φ.m Φ.args Φ.below Φ.meth Φ.c H locs k n Φ.Q g
def Wg (Φ : PH) (nL : Nat) (γ : GG) (k n : Nat) (pc : Nat) (lv : List (Nat × Value)) (st : List Value) : Prop :=
  ∀ (H : Heap) (locs : List Loc) (ls : Array Slot), World Φ.E γ H → va_S (fun q => Φ.E.bs ≤ q) Φ.s.heap H locs → lv_has ls nL lv → WW Φ H locs k n (F0 Φ.m pc ls st)
def QG (E : EE) (post : Option Value → GG → Prop) : Array Value → State → Outcome → State → Prop := fun _ st oc t => ∃ (v : Option Value) (γ' : GG), oc = .returned v ∧ post v γ' ∧ World E γ' t.heap ∧ va_F (fun q => E.bs ≤ q) st t
def PG (E : EE) (av : List Value) (γ : GG) : Array Value → State → Prop := fun v U => v = av.toArray ∧ World E γ U.heap ∧ E.S.WarmedH U.vm
/-- this invocation: its code, class, answer's type, what it owes at its end, the room for what it makes -/
def Fx (Φ : PH) (cc : ByteArray) (own : String) (nL : Nat) (ret : Option FieldType) (post : Option Value → GG → Prop) (mc ms : Nat) : Prop :=
  Φ.p.tables.exec = Jvm.exec ∧ Φ.c.code = cc ∧ Φ.c.maxLocals = nL ∧ Φ.s.vm.findClass own = some Φ.m.cls ∧ (∀ w ∈ lw_all, w.before Φ.args Φ.s = true) ∧ Φ.meth.sig.returnType = ret ∧ Φ.meth.locks = false ∧ EOk Φ.E ∧ Φ.E.S.WarmedH Φ.s.vm ∧ Φ.E.bs ≤ Φ.s.heap.size ∧
  (∀ t, MQ Φ.below (QG Φ.E post) Φ.args Φ.s mc ms (fun q => Φ.E.bs ≤ q) t → Φ.Q t) ∧ Φ.R.cells = mc ∧ Φ.R.slots = ms
/-- the contract of a method over the picture -/
def Ct (l : Launch) (y : MethodName) (cc : ByteArray) (nL : Nat) (ret : Option FieldType) (E : EE) (f L : Nat) (av : List Value) (γ : GG) (post : Option Value → GG → Prop) (mc ms : Nat) : Prop :=
  Met l y (ws_ y cc nL ret) { frames := f, cells := mc, slots := ms, locals := L } (PG E av γ) (QG E post) mc ms (fun q => E.bs ≤ q)
theorem PG.blind (E : EE) (av : List Value) (γ : GG) : FrameBlind (PG E av γ) := fun _ _ _ _ h => h
theorem W.monoQ {p : Program} {l : Launch} {e : Env} {R : Room} {s : State} {m : MethodId} {args : Array Value} {below : List Frame} {meth : Method} {c : Code} {H : Heap} {locs : List Loc} {k n : Nat} {Q Q' : State → Prop} {g : JFrame} (h : ∀ t, Q t → Q' t) (kk : W p l e R s m args below meth c H locs k n Q g) : W p l e R s m args below meth c H locs k n Q' g := fun T hT X => by
  obtain ⟨t, a, b⟩ := kk T hT X
  exact ⟨t, a, h t b⟩
section FX
variable {Φ : PH} {cc : ByteArray} {own : String} {nL : Nat} {ret : Option FieldType} {post : Option Value → GG → Prop} {mc ms : Nat}
theorem Fx.x (F : Fx Φ cc own nL ret post mc ms) : Φ.p.tables.exec = Jvm.exec := F.1
theorem Fx.b (F : Fx Φ cc own nL ret post mc ms) : Φ.c.code = cc := F.2.1
theorem Fx.ml (F : Fx Φ cc own nL ret post mc ms) : Φ.c.maxLocals = nL := F.2.2.1
theorem Fx.ow (F : Fx Φ cc own nL ret post mc ms) : Φ.s.vm.findClass own = some Φ.m.cls := F.2.2.2.1
theorem Fx.ts (F : Fx Φ cc own nL ret post mc ms) : ∀ w ∈ lw_all, w.before Φ.args Φ.s = true := F.2.2.2.2.1
theorem Fx.r (F : Fx Φ cc own nL ret post mc ms) : Φ.meth.sig.returnType = ret := F.2.2.2.2.2.1
theorem Fx.lk (F : Fx Φ cc own nL ret post mc ms) : Φ.meth.locks = false := F.2.2.2.2.2.2.1
theorem Fx.ok (F : Fx Φ cc own nL ret post mc ms) : EOk Φ.E := F.2.2.2.2.2.2.2.1
theorem Fx.wm (F : Fx Φ cc own nL ret post mc ms) : Φ.E.S.WarmedH Φ.s.vm := F.2.2.2.2.2.2.2.2.1
theorem Fx.bs (F : Fx Φ cc own nL ret post mc ms) : Φ.E.bs ≤ Φ.s.heap.size := F.2.2.2.2.2.2.2.2.2.1
theorem Fx.q (F : Fx Φ cc own nL ret post mc ms) : ∀ t, MQ Φ.below (QG Φ.E post) Φ.args Φ.s mc ms (fun q => Φ.E.bs ≤ q) t → Φ.Q t := F.2.2.2.2.2.2.2.2.2.2.1
theorem Fx.rc (F : Fx Φ cc own nL ret post mc ms) : Φ.R.cells = mc := F.2.2.2.2.2.2.2.2.2.2.2.1
theorem Fx.rs (F : Fx Φ cc own nL ret post mc ms) : Φ.R.slots = ms := F.2.2.2.2.2.2.2.2.2.2.2.2
theorem Fx.K (F : Fx Φ cc own nL ret post mc ms) : va_K Φ.E.D vwCl (tysOf Φ.E.cA) Φ.s := va_K.moved F.wm.alike F.ok.2.1
theorem Fx.D (F : Fx Φ cc own nL ret post mc ms) (γ : GG) : va_D (fun q => Φ.E.bs ≤ q) (wsOf Φ.E γ) := F.ok.1.D γ
end FX
/-- from a walk of the body to the contract -/
theorem Ct.of {l : Launch} {y : MethodName} {cc : ByteArray} {nL : Nat} {ret : Option FieldType} {E : EE} {f L : Nat} {av : List Value} {γ : GG} {post : Option Value → GG → Prop} {mc ms : Nat} (hE : EOk E) (hy : plainName y.cls = true) (hlen : (lg_sl av).length ≤ nL)
    (body : ∀ Φ : PH, Φ.l = l → Φ.E = E → Fx Φ cc y.cls nL ret post mc ms → f ≤ Φ.R.frames → L ≤ Φ.R.locals → Wg Φ nL γ 0 0 0 (lv_args 0 av) []) : Ct l y cc nL ret E f L av γ post mc ms := by
  refine Met.ofW (cc := cc) (maxL := nL) (ret := ret) hy rfl ?_
  intro p e s m args below meth c s₁ B hml hv
  obtain ⟨rfl, hW, hK⟩ := hv
  have hts := atoms_spec (ws := ws_ y cc nL ret) B.pre
  have hts : ∀ w ∈ lw_all, w.before _ s = true := fun w h => hts w (List.mem_cons_of_mem _ h)
  have hown : s.vm.findClass y.cls = some m.cls := findClass_of_methodNamed B.named
  have hl := lv_entry av (n := nL) hlen
  rw [lg_entry_eq]
  exact body (p, l, e, _, s, m, av.toArray, below, meth, c, _, E) rfl rfl ⟨B.exec, B.bytes, hml, hown, hts, B.returns, B.notSynchronized, hE, hK, hW.2.2.1, fun _ h => h, rfl, rfl⟩ (Nat.le_refl _) (Nat.le_refl _) _ _ _ hW va_S.rf hl
