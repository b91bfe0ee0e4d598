/-! walks over a list of cells: constructors -/
abbrev cl9 : List vw_C := [(RX0, TX0, 15), (RX1, TX1, 13), (RX2, TX2, 7), (RX3, (fun _ => ("", "", "", false)), 0), (RX4, (fun _ => ("", "", "", false)), 0), (RX5, (fun _ => ("", "", "", false)), 0), (RX6, (fun _ => ("", "", "", false)), 0), (RX8, TX8, 33), (RX7, TX7, 6)]
def VW (E : EE) (ws : va_W) (H : Heap) : Prop := va_P E.D cl9 ws H ∧ va_D (fun q => E.bs ≤ q) ws ∧ E.bs ≤ H.size ∧ ∀ q, q < E.bs → H[q]? = E.S.heap[q]?
def KOk (E : EE) : Prop := va_K E.D cl9 (tysOf E.cA) E.S ∧ (∀ w ∈ lw_tbl, w.before #[] E.S = true)
theorem VW.next {E : EE} {ws ws' : va_W} {s : State} {H H1 : Heap} {locs locs1 : List Loc} (hW : VW E ws H) (hS : va_S (fun q => E.bs ≤ q) s.heap H locs) (hS1 : va_S (fun q => E.bs ≤ q) s.heap H1 locs1) (hb : E.bs ≤ s.heap.size) (hP : va_P E.D cl9 ws' H1) (hD : va_D (fun q => E.bs ≤ q) ws') : VW E ws' H1 :=
  ⟨hP, hD, Nat.le_trans hb hS1.1, fun q hq => by
    rw [hS1.2.1 q (Nat.lt_of_lt_of_le hq hb) (Nat.not_le.mpr hq), ← hS.2.1 q (Nat.lt_of_lt_of_le hq hb) (Nat.not_le.mpr hq)]
    exact hW.2.2.2 q hq⟩
def Vg (Φ : PH) (nL : Nat) (ws : va_W) (k n : Nat) (pc : Nat) (lv : List (Nat × Value)) (st : List Value) : Prop :=
  ∀ (H : Heap) (locs : List Loc) (ls : Array Slot), VW Φ.E ws H → va_S (fun q => Φ.E.bs ≤ q) Φ.s.heap H locs → lv_has ls nL lv → WW Φ H locs k n (F0 Φ.m pc ls st)
def QV (E : EE) (post : Option Value → va_W → Prop) : Array Value → State → Outcome → State → Prop := fun _ st oc t => ∃ (v : Option Value) (ws' : va_W), oc = .returned v ∧ post v ws' ∧ VW E ws' t.heap ∧ va_F (fun q => E.bs ≤ q) st t
def PV (E : EE) (av : List Value) (ws : va_W) : Array Value → State → Prop := fun v U => v = av.toArray ∧ VW E ws U.heap ∧ E.S.WarmedH U.vm
theorem PV.blind (E : EE) (av : List Value) (ws : va_W) : FrameBlind (PV E av ws) := fun _ _ _ _ h => h
def Fcv (Φ : PH) (cc : ByteArray) (y : MethodName) (nL : Nat) (ret : Option FieldType) (post : Option Value → va_W → Prop) (mc ms : Nat) : Prop :=
  Φ.p.tables.exec = Jvm.exec ∧ Φ.c.code = cc ∧ Φ.c.maxLocals = nL ∧ Φ.s.vm.findClass y.cls = some Φ.m.cls ∧ (∀ w ∈ lw_all, w.before Φ.args Φ.s = true) ∧ Φ.meth.sig.returnType = ret ∧ Φ.meth.locks = false ∧ KOk Φ.E ∧ Φ.E.S.WarmedH Φ.s.vm ∧ Φ.E.bs ≤ Φ.s.heap.size ∧
  (∀ t, MQ Φ.below (QV Φ.E post) Φ.args Φ.s mc ms (fun q => Φ.E.bs ≤ q) t → Φ.Q t) ∧ Φ.R.cells = mc ∧ Φ.R.slots = ms ∧ Φ.meth.name = y.name
def Cv (l : Launch) (y : MethodName) (cc : ByteArray) (nL : Nat) (ret : Option FieldType) (E : EE) (f L : Nat) (av : List Value) (ws : va_W) (post : Option Value → va_W → Prop) (mc ms : Nat) : Prop :=
  Met l y (ws_ y cc nL ret) { frames := f, cells := mc, slots := ms, locals := L } (PV E av ws) (QV E post) mc ms (fun q => E.bs ≤ q)
section FV
variable {Φ : PH} {cc : ByteArray} {y : MethodName} {nL : Nat} {ret : Option FieldType} {post : Option Value → va_W → Prop} {mc ms : Nat}
theorem Fcv.x (F : Fcv Φ cc y nL ret post mc ms) : Φ.p.tables.exec = Jvm.exec := F.1
theorem Fcv.b (F : Fcv Φ cc y nL ret post mc ms) : Φ.c.code = cc := F.2.1
theorem Fcv.ml (F : Fcv Φ cc y nL ret post mc ms) : Φ.c.maxLocals = nL := F.2.2.1
theorem Fcv.ow (F : Fcv Φ cc y nL ret post mc ms) : Φ.s.vm.findClass y.cls = some Φ.m.cls := F.2.2.2.1
theorem Fcv.ts (F : Fcv Φ cc y nL ret post mc ms) : ∀ w ∈ lw_all, w.before Φ.args Φ.s = true := F.2.2.2.2.1
theorem Fcv.r (F : Fcv Φ cc y nL ret post mc ms) : Φ.meth.sig.returnType = ret := F.2.2.2.2.2.1
theorem Fcv.lk (F : Fcv Φ cc y nL ret post mc ms) : Φ.meth.locks = false := F.2.2.2.2.2.2.1
theorem Fcv.ok (F : Fcv Φ cc y nL ret post mc ms) : KOk Φ.E := F.2.2.2.2.2.2.2.1
theorem Fcv.wm (F : Fcv Φ cc y nL ret post mc ms) : Φ.E.S.WarmedH Φ.s.vm := F.2.2.2.2.2.2.2.2.1
theorem Fcv.bs (F : Fcv Φ cc y nL ret post mc ms) : Φ.E.bs ≤ Φ.s.heap.size := F.2.2.2.2.2.2.2.2.2.1
theorem Fcv.q (F : Fcv Φ cc y nL ret post mc ms) : ∀ t, MQ Φ.below (QV Φ.E post) Φ.args Φ.s mc ms (fun q => Φ.E.bs ≤ q) t → Φ.Q t := F.2.2.2.2.2.2.2.2.2.2.1
theorem Fcv.rc (F : Fcv Φ cc y nL ret post mc ms) : Φ.R.cells = mc := F.2.2.2.2.2.2.2.2.2.2.2.1
theorem Fcv.rs (F : Fcv Φ cc y nL ret post mc ms) : Φ.R.slots = ms := F.2.2.2.2.2.2.2.2.2.2.2.2.1
theorem Fcv.nm (F : Fcv Φ cc y nL ret post mc ms) : Φ.meth.name = y.name := F.2.2.2.2.2.2.2.2.2.2.2.2.2
theorem Fcv.K (F : Fcv Φ cc y nL ret post mc ms) : va_K Φ.E.D cl9 (tysOf Φ.E.cA) Φ.s := va_K.moved F.wm.alike F.ok.1
theorem Fcv.nw (F : Fcv Φ cc y nL ret post mc ms) {C T : String} (h : Cond.castable C T ∈ lw_tbl) : va_Nw (.castable C T) Φ.s := va_Nw.warmC F.wm (F.ok.2 _ h)
end FV
theorem Cv.of {l : Launch} {y : MethodName} {cc : ByteArray} {nL : Nat} {ret : Option FieldType} {E : EE} {f L : Nat} {av : List Value} {ws : va_W} {post : Option Value → va_W → Prop} {mc ms : Nat} (hE : KOk E) (hy : plainFor y = true) (hlen : (lg_sl av).length ≤ nL)
    (body : ∀ Φ : PH, Φ.l = l → Φ.E = E → Fcv Φ cc y nL ret post mc ms → f ≤ Φ.R.frames → L ≤ Φ.R.locals → Vg Φ nL ws 0 0 0 (lv_args 0 av) []) : Cv l y cc nL ret E f L av ws post mc ms := by
  refine Met.ofF (cc := cc) (maxL := nL) (ret := ret) hy rfl ?_
  intro p e s m args below meth c s₁ B hml hv
  obtain ⟨rfl, hW, hK⟩ := hv
  have hts := atoms_spec (ws := ws_ y cc nL ret) B.pre
  have hts : ∀ w ∈ lw_all, w.before _ s = true := fun w h => hts w (List.mem_cons_of_mem _ h)
  have hown : s.vm.findClass y.cls = some m.cls := findClass_of_methodNamed B.named
  have hl := lv_entry av (n := nL) hlen
  rw [lg_entry_eq]
  exact body (p, l, e, _, s, m, av.toArray, below, meth, c, _, E) rfl rfl ⟨B.exec, B.bytes, hml, hown, hts, B.returns, B.notSynchronized, hE, hK, hW.2.2.1, fun _ h => h, rfl, rfl, (name_of_methodNamed B.named B.method).1⟩ (Nat.le_refl _) (Nat.le_refl _) _ _ _ hW va_S.rf hl
section VR
variable {Φ : PH} {cc : ByteArray} {y : MethodName} {nL : Nat} {ret : Option FieldType} {post : Option Value → va_W → Prop} {mc ms : Nat} {ws : va_W} {k n pc : Nat} {lv lv' : List (Nat × Value)} {st rest : List Value}
theorem v_loc (hs : ∀ q ∈ lv', q ∈ lv) (h : Vg Φ nL ws k n pc lv' st) : Vg Φ nL ws k n pc lv st := fun H locs ls hW hS hl => h H locs ls hW hS (lv_mono hl hs)
theorem v_widen {k' n' : Nat} (hk : k ≤ k') (hn : n ≤ n') (h : Vg Φ nL ws k' n' pc lv st) : Vg Φ nL ws k n pc lv st := fun H locs ls hW hS hl => W.widen hk hn (h H locs ls hW hS hl)
theorem v_top {z z' : Int} (e : z = z') (h : Vg Φ nL ws k n pc lv (.int (iI z') :: st)) : Vg Φ nL ws k n pc lv (.int (iI z) :: st) := by subst e; exact h
theorem v_iconst (F : Fcv Φ cc y nL ret post mc ms) {z : Int} (hdg : decode cc pc = .ok (.iconst z, 1)) (h : Vg Φ nL ws k n (pc + 1) lv (.int (iI z) :: st)) : Vg Φ nL ws k n pc lv st := fun H locs ls hW hS hl => lv_iconst F.x F.b hdg rfl (h H locs ls hW hS hl)
theorem v_bipush (F : Fcv Φ cc y nL ret post mc ms) {z : Int} (hdg : decode cc pc = .ok (.bipush z, 2)) (hz : (Int8.ofInt z).toInt32 = iI z) (h : Vg Φ nL ws k n (pc + 2) lv (.int (iI z) :: st)) : Vg Φ nL ws k n pc lv st := fun H locs ls hW hS hl => lv_bipush F.x F.b hdg hz (h H locs ls hW hS hl)
theorem v_sipush (F : Fcv Φ cc y nL ret post mc ms) {z : Int} (hdg : decode cc pc = .ok (.sipush z, 3)) (hz : (Int16.ofInt z).toInt32 = iI z) (h : Vg Φ nL ws k n (pc + 3) lv (.int (iI z) :: st)) : Vg Φ nL ws k n pc lv st := fun H locs ls hW hS hl => lv_sipush F.x F.b hdg hz (h H locs ls hW hS hl)
theorem v_iload_n (F : Fcv Φ cc y nL ret post mc ms) {q : Fin 4} {x : Int32} (hdg : decode cc pc = .ok (.iload_n q, 1)) (hl : lget lv q.val = some (.int x)) (h : Vg Φ nL ws k n (pc + 1) lv (.int x :: st)) : Vg Φ nL ws k n pc lv st := fun H locs ls hW hS hl' => lv_iload_n F.x F.b hdg rfl (lv_lget hl' hl) (h H locs ls hW hS hl')
theorem v_iload (F : Fcv Φ cc y nL ret post mc ms) {i : Nat} {x : Int32} (hdg : decode cc pc = .ok (.iload i, 2)) (hl : lget lv i = some (.int x)) (h : Vg Φ nL ws k n (pc + 2) lv (.int x :: st)) : Vg Φ nL ws k n pc lv st := fun H locs ls hW hS hl' => lv_iload F.x F.b hdg (lv_lget hl' hl) (h H locs ls hW hS hl')
theorem v_aload_n (F : Fcv Φ cc y nL ret post mc ms) {q : Fin 4} {v : Value} (hdg : decode cc pc = .ok (.aload_n q, 1)) (hl : lget lv q.val = some v) (hv : v.isRef = true) (h : Vg Φ nL ws k n (pc + 1) lv (v :: st)) : Vg Φ nL ws k n pc lv st := by
  intro H locs ls hW hS hl'
  cases v with
  | ref a => exact lv_aload_n F.x F.b hdg rfl (lv_lget hl' hl) (h H locs ls hW hS hl')
  | null => exact lv_aload_nN F.x F.b hdg rfl (lv_lget hl' hl) (h H locs ls hW hS hl')
  | _ => cases hv
theorem v_aload (F : Fcv Φ cc y nL ret post mc ms) {i : Nat} {v : Value} (hdg : decode cc pc = .ok (.aload i, 2)) (hl : lget lv i = some v) (hv : v.isRef = true) (h : Vg Φ nL ws k n (pc + 2) lv (v :: st)) : Vg Φ nL ws k n pc lv st := by
  intro H locs ls hW hS hl'
  cases v with
  | ref a => exact lv_aload F.x F.b hdg (lv_lget hl' hl) (h H locs ls hW hS hl')
  | null => exact lv_aloadN F.x F.b hdg (lv_lget hl' hl) (h H locs ls hW hS hl')
  | _ => cases hv
theorem v_istore_n (F : Fcv Φ cc y nL ret post mc ms) {q : Fin 4} {x : Int32} (hdg : decode cc pc = .ok (.istore_n q, 1)) (hi : q.val < nL) (ho : lok lv q.val = true) (hl : lput lv q.val (.int x) = lv') (h : Vg Φ nL ws k n (pc + 1) lv' st) : Vg Φ nL ws k n pc lv (.int x :: st) := fun H locs ls hW hS hl' => lv_istore_n F.x F.b hdg rfl hl' hi rfl (fun ls2 hl2 => h H locs ls2 hW hS (lv_mono hl2 (hl ▸ lput_sub ho)))
theorem v_istore (F : Fcv Φ cc y nL ret post mc ms) {i : Nat} {x : Int32} (hdg : decode cc pc = .ok (.istore i, 2)) (hi : i < nL) (ho : lok lv i = true) (hl : lput lv i (.int x) = lv') (h : Vg Φ nL ws k n (pc + 2) lv' st) : Vg Φ nL ws k n pc lv (.int x :: st) := fun H locs ls hW hS hl' => lv_istore F.x F.b hdg hl' hi rfl (fun ls2 hl2 => h H locs ls2 hW hS (lv_mono hl2 (hl ▸ lput_sub ho)))
theorem v_astore_n (F : Fcv Φ cc y nL ret post mc ms) {q : Fin 4} {v : Value} (hdg : decode cc pc = .ok (.astore_n q, 1)) (hi : q.val < nL) (ho : lok lv q.val = true) (hl : lput lv q.val v = lv') (hv : v.isRef = true) (h : Vg Φ nL ws k n (pc + 1) lv' st) : Vg Φ nL ws k n pc lv (v :: st) := by
  intro H locs ls hW hS hl'
  cases v with
  | ref a => exact lv_astore_n F.x F.b hdg rfl hl' hi rfl (fun ls2 hl2 => h H locs ls2 hW hS (lv_mono hl2 (hl ▸ lput_sub ho)))
  | null => exact lv_astore_nN F.x F.b hdg rfl hl' hi rfl (fun ls2 hl2 => h H locs ls2 hW hS (lv_mono hl2 (hl ▸ lput_sub ho)))
  | _ => cases hv
theorem v_iinc (F : Fcv Φ cc y nL ret post mc ms) {i : Nat} {d z : Int} (hdg : decode cc pc = .ok (.iinc i d, 3)) (hg : lget lv i = some (.int (iI z))) (hi : i < nL) (ho : lok lv i = true) (hl : lput lv i (.int (iI (z + d))) = lv') (h : Vg Φ nL ws k n (pc + 3) lv' st) : Vg Φ nL ws k n pc lv st := by
  intro H locs ls hW hS hl'
  obtain ⟨j, hj⟩ := lv_get?_of (lget_mem hg)
  exact lv_iinc F.x F.b hdg hl' hj (iI_add z d) hi rfl (fun ls2 hl2 => h H locs ls2 hW hS (lv_mono hl2 (hl ▸ lput_sub ho)))
theorem v_dup (F : Fcv Φ cc y nL ret post mc ms) {v : Value} (hdg : decode cc pc = .ok (.dup, 1)) (hc : v.category = 1) (h : Vg Φ nL ws k n (pc + 1) lv (v :: v :: st)) : Vg Φ nL ws k n pc lv (v :: st) := fun H locs ls hW hS hl => lv_dup F.x F.b hdg hc (h H locs ls hW hS hl)
theorem v_pop (F : Fcv Φ cc y nL ret post mc ms) {v : Value} (hdg : decode cc pc = .ok (.pop, 1)) (hc : v.category = 1) (h : Vg Φ nL ws k n (pc + 1) lv st) : Vg Φ nL ws k n pc lv (v :: st) := fun H locs ls hW hS hl => lv_pop F.x F.b hdg hc (h H locs ls hW hS hl)
theorem v_goto (F : Fcv Φ cc y nL ret post mc ms) {off : Int} {tgt : Nat} (hdg : decode cc pc = .ok (.goto off, 3)) (ht : (pc : Int) + off = (tgt : Int)) (h : Vg Φ nL ws k n tgt lv st) : Vg Φ nL ws k n pc lv st := fun H locs ls hW hS hl => lv_goto F.x F.b hdg ht (h H locs ls hW hS hl)
theorem v_null (F : Fcv Φ cc y nL ret post mc ms) (hdg : decode cc pc = .ok (.aconst_null, 1)) (h : Vg Φ nL ws k n (pc + 1) lv (.null :: st)) : Vg Φ nL ws k n pc lv st := fun H locs ls hW hS hl => lv_null F.x F.b hdg (h H locs ls hW hS hl)
theorem v_if_eq (F : Fcv Φ cc y nL ret post mc ms) {z : Int} {off : Int} {tgt : Nat} (hdg : decode cc pc = .ok (.ifCond .eq off, 3)) (ht' : (pc : Int) + off = (tgt : Int)) (hz : InR z) (ht : z = 0 → Vg Φ nL ws k n tgt lv st) (hf : z ≠ 0 → Vg Φ nL ws k n (pc + 3) lv st) : Vg Φ nL ws k n pc lv (.int (iI z) :: st) := fun H locs ls hW hS hl => lv_if_eq F.x F.b hdg ht' (fun q => ht ((iI_eq hz inR0).mp q) H locs ls hW hS hl) (fun q => hf (fun e => q ((iI_eq hz inR0).mpr e)) H locs ls hW hS hl)
theorem v_if_ne (F : Fcv Φ cc y nL ret post mc ms) {z : Int} {off : Int} {tgt : Nat} (hdg : decode cc pc = .ok (.ifCond .ne off, 3)) (ht' : (pc : Int) + off = (tgt : Int)) (hz : InR z) (ht : z ≠ 0 → Vg Φ nL ws k n tgt lv st) (hf : z = 0 → Vg Φ nL ws k n (pc + 3) lv st) : Vg Φ nL ws k n pc lv (.int (iI z) :: st) := fun H locs ls hW hS hl => lv_if_ne F.x F.b hdg ht' (fun q => ht (fun e => q ((iI_eq hz inR0).mpr e)) H locs ls hW hS hl) (fun q => hf ((iI_eq hz inR0).mp q) H locs ls hW hS hl)
theorem v_icmp_ge (F : Fcv Φ cc y nL ret post mc ms) {a b : Int} {off : Int} {tgt : Nat} (hdg : decode cc pc = .ok (.if_icmp .ge off, 3)) (ht' : (pc : Int) + off = (tgt : Int)) (ha : InR a) (hb : InR b) (ht : b ≤ a → Vg Φ nL ws k n tgt lv st) (hf : a < b → Vg Φ nL ws k n (pc + 3) lv st) : Vg Φ nL ws k n pc lv (.int (iI b) :: .int (iI a) :: st) := fun H locs ls hW hS hl => lv_icmp_ge F.x F.b hdg ht' (fun q => ht ((iI_le hb ha).mp q) H locs ls hW hS hl) (fun q => hf (Int.not_le.mp (fun e => q ((iI_le hb ha).mpr e))) H locs ls hW hS hl)

theorem v_keep (ks : List Nat) (hl : lkeep lv ks = lv') (h : Vg Φ nL ws k n pc lv' st) : Vg Φ nL ws k n pc lv st := v_loc (hl ▸ lkeep_sub) h
theorem v_vret (F : Fcv Φ cc y nL none post mc ms) (hk : k ≤ mc) (hn : n ≤ ms) (hp : post none ws) (hdg : decode cc pc = .ok (.return_, 1)) : Vg Φ nL ws k n pc lv [] := by
  intro H locs ls hW hS hl
  refine W.widen hk hn ?_
  refine W.monoQ F.q ?_
  exact W.vret F.x F.b F.r (fun t ht hw => ⟨_, ws, rfl, hp, by rw [ht]; exact hW, hS.F ht⟩) hS.2.2 hdg F.lk
theorem v_objInit (F : Fcv Φ cc y nL ret post mc ms) {a idx : Nat} (hl : Cond.methodLink y.cls idx Lib.objectInit ∈ lw_all) (hcat : (st.map fun v => v.category).sum ≤ 8) (hR : 1 ≤ Φ.R.frames ∧ 20 ≤ Φ.R.locals) (hdg : decode cc pc = .ok (.invokespecial idx, 3)) (h : Vg Φ nL ws k n (pc + 3) lv st) : Vg Φ nL ws k n pc lv (.ref a :: st) := fun H locs ls hW hS hlv => W.objInit F.x F.b F.ow (F.ts _ hl) (F.ts _ q96) (F.ts _ q97) (g := F0 Φ.m pc ls (.ref a :: st)) rfl (hlv.1.trans F.ml.symm) rfl hdg hR.1 (by show 2 * 0 + (st.map fun v => v.category).sum + 12 ≤ Φ.R.locals; omega) (h H locs ls hW hS hlv)
theorem v_put (F : Fcv Φ cc y nL ret post mc ms) {q0 a ci : Nat} {fs : List Value} (he : ws[q0]? = some (a, .inr (ci, fs))) {C : String} {T : u_T} {N : Nat} (hc : cl9[ci]? = some (C, T, N)) (hin : ∀ w ∈ u_ws C T N, w ∈ lw_all) (ty0 : Nat → FieldType) (hty : ∀ k, k < N → parseFieldDescriptor (T k).2.2.1 = some (ty0 k)) (hnm : ∀ a, a < N → ∀ b, b < N → a ≠ b → (T a).2.1 ≠ (T b).2.1) (f : Nat) (hf : f < N) {index : Nat} (hlink : Cond.fieldLink y.cls index (T f).1 (T f).2.1 (T f).2.2.1 ∈ lw_all) (hfin : (T f).2.2.2 = false) {v : Value} (hn : narrow (ty0 f) v = v) (hfit : fits (ty0 f) v = true) (hl : f < fs.length) (hdg : decode cc pc = .ok (.putfield index, 3)) (h : Vg Φ nL (ws.set q0 (a, .inr (ci, fs.set f v))) k n (pc + 3) lv st) : Vg Φ nL ws k n pc lv (v :: .ref a :: st) := by
  intro H locs ls hW hS hlv
  exact va_put F.x F.b F.ts hin ty0 hty hnm F.ow F.K hW.1 hW.2.1 hS q0 he hc f hf (F.ts _ hlink) (fun _ h => h) hfin (hty f hf) hn hfit hl hdg (fun H1 locs1 hP1 hD1 hS1 => h H1 locs1 ls (hW.next hS hS1 F.bs hP1 hD1) hS1 hlv)
theorem v_putF (F : Fcv Φ cc y nL ret post mc ms) {q0 a ci : Nat} {fs : List Value} (he : ws[q0]? = some (a, .inr (ci, fs))) {C : String} {T : u_T} {N : Nat} (hc : cl9[ci]? = some (C, T, N)) (hin : ∀ w ∈ u_ws C T N, w ∈ lw_all) (ty0 : Nat → FieldType) (hty : ∀ k, k < N → parseFieldDescriptor (T k).2.2.1 = some (ty0 k)) (hnm : ∀ a, a < N → ∀ b, b < N → a ≠ b → (T a).2.1 ≠ (T b).2.1) (f : Nat) (hf : f < N) {index : Nat} (hlink : Cond.fieldLink y.cls index (T f).1 (T f).2.1 (T f).2.2.1 ∈ lw_all) (hfin : (T f).2.2.2 = true) (hin2 : y.name = "<init>") (hdecl : (T f).1 = y.cls) {v : Value} (hn : narrow (ty0 f) v = v) (hfit : fits (ty0 f) v = true) (hl : f < fs.length) (hdg : decode cc pc = .ok (.putfield index, 3)) (h : Vg Φ nL (ws.set q0 (a, .inr (ci, fs.set f v))) k n (pc + 3) lv st) : Vg Φ nL ws k n pc lv (v :: .ref a :: st) := by
  intro H locs ls hW hS hlv
  exact va_putF F.x F.b F.ts hin ty0 hty hnm F.ow F.K hW.1 hW.2.1 hS q0 he hc f hf (F.ts _ hlink) (fun _ h => h) hfin (F.nm.trans hin2) hdecl (hty f hf) hn hfit hl hdg (fun H1 locs1 hP1 hD1 hS1 => h H1 locs1 ls (hW.next hS hS1 F.bs hP1 hD1) hS1 hlv)
theorem v_get (F : Fcv Φ cc y nL ret post mc ms) {q0 a ci : Nat} {fs : List Value} (he : ws[q0]? = some (a, .inr (ci, fs))) {C : String} {T : u_T} {N : Nat} (hc : cl9[ci]? = some (C, T, N)) (hin : ∀ w ∈ u_ws C T N, w ∈ lw_all) (f : Nat) (hf : f < N) {index : Nat} (hlink : Cond.fieldLink y.cls index (T f).1 (T f).2.1 (T f).2.2.1 ∈ lw_all) {v : Value} (hv : fs[f]? = some v) (hdg : decode cc pc = .ok (.getfield index, 3)) (h : Vg Φ nL ws k n (pc + 3) lv (v :: st)) : Vg Φ nL ws k n pc lv (.ref a :: st) := by
  intro H locs ls hW hS hlv
  exact va_get F.x F.b F.ts hin F.ow F.K hW.1 q0 he hc f hf (F.ts _ hlink) (fun _ h => h) hv hdg (h H locs ls hW hS hlv)
theorem Fcv.hA (F : Fcv Φ cc y nL ret post mc ms) : ∀ q, Φ.s.heap.size ≤ q → Φ.E.bs ≤ q := fun q hq => Nat.le_trans F.bs hq
theorem v_new (F : Fcv Φ cc y nL ret post mc ms) {ci : Nat} {C : String} {T : u_T} {N : Nat} (hc : cl9[ci]? = some (C, T, N)) (hin : ∀ w ∈ u_ws C T N, w ∈ lw_all) (ty0 : Nat → FieldType) (hty : ∀ k, k < N → parseFieldDescriptor (T k).2.2.1 = some (ty0 k)) {index : Nat} (hcl : Cond.classLink y.cls index C ∈ lw_all) (hinst : Cond.instantiable C N ∈ lw_all) (hini : Cond.initialized C ∈ lw_all) {fs : List Value} (hfs : ∀ j, j < N → defaultValue (ty0 j) = vp_V fs j) (hf : k + 1 ≤ Φ.R.cells ∧ n + N ≤ Φ.R.slots) (hdg : decode cc pc = .ok (.new index, 3)) (h : ∀ q : Nat, Vg Φ nL (ws ++ [(q, .inr (ci, fs))]) (k + 1) (n + N) (pc + 3) lv (.ref q :: st)) : Vg Φ nL ws k n pc lv st := by
  intro H locs ls hW hS hlv
  exact va_new F.x F.b F.ts hin ty0 hty F.ow (F.ts _ hcl) (F.ts _ hinst) (F.ts _ hini) F.K hW.1 hW.2.1 hS F.hA hc hfs hf.1 hf.2 hdg (fun q H1 hP1 hD1 hS1 => h q H1 locs ls (hW.next hS hS1 F.bs hP1 hD1) hS1 hlv)
/-- an array of bytes or ints: t its type's place -/
theorem v_newa (F : Fcv Φ cc y nL ret post mc ms) {atype : ArrayType} (hac : Cond.arrayClass (newarray.typeOf atype) ∈ lw_all) {ty : FieldType} (hty : newarray.typeOf atype = ty) {t : Nat} (ht : (tysOf Φ.E.cA)[t]? = some (Φ.E.cA t, ty)) (hnm : ∀ cA, va_RA Φ.s cA ty → Φ.s.vm.findClass ("[" ++ ty.toString) = some cA) {N : Nat} (hN : N < 2 ^ 20) {a0 : vp_A} (ha : ∀ cA : ClassId, vp_cell cA a0 = arrV cA N (fun _ => defaultValue ty)) (hby : componentBytes ty ≤ 4) (hf : k + 1 ≤ Φ.R.cells ∧ n + N ≤ Φ.R.slots) (hdg : decode cc pc = .ok (.newarray atype, 2)) (h : ∀ q : Nat, Vg Φ nL (ws ++ [(q, .inl (Φ.E.cA t, a0))]) (k + 1) (n + N) (pc + 2) lv (.ref q :: st)) : Vg Φ nL ws k n pc lv (.int (iI (N : Int)) :: st) := by
  intro H locs ls hW hS hlv
  refine va_newa F.x F.b (F.ts _ hac) hty F.K hW.1 hW.2.1 hS F.hA (N' := N) (a0 := a0) ha (fun q => by have := (iI_lt (a := (N : Int)) (b := 0) ⟨by omega, by omega⟩ inR0).mp q; omega) (by rw [iI_clamp ⟨by omega, by omega⟩ (by omega)]; simp) (by have : N * componentBytes ty ≤ 2 ^ 20 * 4 := Nat.mul_le_mul (by omega) hby; omega) hf.1 hf.2 hdg (fun q cA H1 hK1 hP1 hD1 hS1 => ?_)
  have h1 := hnm cA (hK1.2 (tysOf Φ.E.cA).length (cA, ty) (by simp)).2
  have h2 := hnm (Φ.E.cA t) (F.K.2 t _ ht).2
  cases h1.symm.trans h2
  exact h q H1 locs ls (hW.next hS hS1 F.bs hP1 hD1) hS1 hlv
theorem v_newq (F : Fcv Φ cc y nL ret post mc ms) {C : String} {index : Nat} (hcl : Cond.classLink y.cls index C ∈ lw_all) (hov : Cond.arrayOver (.object C) ∈ lw_tbl) {t : Nat} (ht : (tysOf Φ.E.cA)[t]? = some (Φ.E.cA t, .object C)) {N : Nat} (hN : N < 2 ^ 20) (hf : k + 1 ≤ Φ.R.cells ∧ n + N ≤ Φ.R.slots) (hdg : decode cc pc = .ok (.anewarray index, 3)) (h : ∀ q : Nat, Vg Φ nL (ws ++ [(q, .inl (Φ.E.cA t, N, refs (fun _ => none)))]) (k + 1) (n + N) (pc + 3) lv (.ref q :: st)) : Vg Φ nL ws k n pc lv (.int (iI (N : Int)) :: st) := by
  intro H locs ls hW hS hlv
  refine va_newq F.x F.b F.ow (F.ts _ hcl) (va_AO.moved F.wm.alike (F.ok.2 _ hov)) F.K hW.1 hW.2.1 hS F.hA (N' := N) (fun q => by have := (iI_lt (a := (N : Int)) (b := 0) ⟨by omega, by omega⟩ inR0).mp q; omega) (by rw [iI_clamp ⟨by omega, by omega⟩ (by omega)]; simp) (by omega) hf.1 hf.2 hdg (fun q cA H1 hK1 hP1 hD1 hS1 => ?_)
  obtain ⟨_, _, _, _, _, h1⟩ := (hK1.2 (tysOf Φ.E.cA).length (cA, .object C) (by simp)).2
  obtain ⟨_, _, _, _, _, h2⟩ := (F.K.2 t _ ht).2
  cases h1.symm.trans h2
  exact h q H1 locs ls (hW.next hS hS1 F.bs hP1 hD1) hS1 hlv
/-- a reference laid into an array; Er: the array's component -/
theorem v_aast (F : Fcv Φ cc y nL ret post mc ms) {q0 qk a v ci t N : Nat} {Er : String} {g : Nat → Option Nat} {vs : List Value} (he : ws[q0]? = some (a, .inl (Φ.E.cA t, N, refs g))) (ht : (tysOf Φ.E.cA)[t]? = some (Φ.E.cA t, .object Er)) (hv : ws[qk]? = some (v, .inr (ci, vs))) {r : vw_C} (hc : cl9[ci]? = some r) (hca : Er = r.1 ∨ Cond.castable r.1 Er ∈ lw_tbl) {i : Nat} (hi : i < N) (hN : N < 2 ^ 31) (hdg : decode cc pc = .ok (.aastore, 1)) (h : Vg Φ nL (ws.set q0 (a, .inl (Φ.E.cA t, N, refs (va_up g i (some v))))) k n (pc + 1) lv st) : Vg Φ nL ws k n pc lv (.ref v :: .int (iI (i : Int)) :: .ref a :: st) := by
  intro H locs ls hW hS hlv
  have hcl : (iI (i : Int)).toNatClampNeg = i := by rw [iI_clamp ⟨by omega, by omega⟩ (by omega)]; simp
  rcases hca with e | e
  · subst e
    refine va_astq F.x F.b F.K hW.1 hW.2.1 hS q0 t qk ci he ht hv hc (iI_in (by omega) (by omega) hN) hdg (fun H1 locs1 hP1 hD1 hS1 => ?_)
    rw [hcl] at hP1 hD1
    exact h H1 locs1 ls (hW.next hS hS1 F.bs hP1 hD1) hS1 hlv
  · refine va_astqO F.x F.b F.K hW.1 hW.2.1 hS q0 t qk ci he ht (F.nw e) hv hc (iI_in (by omega) (by omega) hN) hdg (fun H1 locs1 hP1 hD1 hS1 => ?_)
    rw [hcl] at hP1 hD1
    exact h H1 locs1 ls (hW.next hS hS1 F.bs hP1 hD1) hS1 hlv
theorem Fcv.fix (F : Fcv Φ cc y nL ret post mc ms) : CallFix Φ.p Φ.m Φ.c cc nL Φ.s Φ.args lw_all y.cls := ⟨F.x, F.b, F.ml, F.ow, F.ts⟩
theorem v_run (F : Fcv Φ cc y nL ret post mc ms) {py : Option Value → va_W → Prop} {kc ks : Nat} {a : Array Value}
    (hr : ∀ (H : Heap) (locs : List Loc) (ls : Array Slot), VW Φ.E ws H → ls.size = nL → va_Run Φ.p Φ.l Φ.e Φ.R Φ.s Φ.m Φ.args Φ.below Φ.meth Φ.c H locs k n kc ks (F0 Φ.m pc ls st) rest (QV Φ.E py a) (fun q => Φ.E.bs ≤ q))
    (kk : ∀ (v : Option Value) (ws' : va_W), py v ws' → Vg Φ nL ws' (k + kc) (n + ks) (pc + 3) lv (v.toList ++ rest)) : Vg Φ nL ws k n pc lv st := by
  intro H locs ls hW hS hl T hT X
  obtain ⟨v, st₀, t, T', L, h0, X', hL, e1, e2, ⟨v2, ws', hv, hp, hw1, hz, hk⟩, stp⟩ := hr H locs ls hW hl.1 T hT X
  cases hv
  rw [h0] at hz hk
  have hS1 : va_S (fun q => Φ.E.bs ≤ q) Φ.s.heap T'.heap (locs ++ L) := ⟨Nat.le_trans hS.1 (by rw [e1]; exact hz), fun q h1 h2 => by rw [e1, hk q (Nat.lt_of_lt_of_le h1 hS.1) h2]; exact hS.2.1 q h1 h2, fun q hq => by
      rcases List.mem_append.mp hq with h | h
      · exact hS.2.2 q h
      · exact hL q h⟩
  obtain ⟨t2, a1, b1⟩ := kk v ws' hp T'.heap (locs ++ L) ls (by rw [e1]; exact hw1) hS1 hl T' rfl X'
  exact ⟨t2, stp t2 a1, b1⟩
theorem VW.pre {E : EE} {s : State} {H : Heap} {av : List Value} (hW : VW E ws H) (hwm : E.S.WarmedH s.vm) : ∀ U : State, U.heap = H → s.WarmedH U.vm → PV E av ws av.toArray U := fun U hU hw => ⟨rfl, by rw [hU]; exact hW, State.WarmedH.trans hwm hw⟩
/-- a constructor, called -/
theorem v_callI (F : Fcv Φ cc y nL ret post mc ms) {z : MethodName} {cy : ByteArray} {ny : Nat} {f L : Nat} {As : List Value} {a : Nat} {py : Option Value → va_W → Prop} {kc ks : Nat}
    (hM : Cv Φ.l z cy ny none Φ.E f L (.ref a :: As) ws py kc ks) {index nA : Nat} (hcode : Cond.code z cy ny none ∈ lw_all) (hini : Cond.initialized z.cls ∈ lw_all) (hlk : Cond.methodLink y.cls index z ∈ lw_all) (hin : Cond.instanceMethod z ∈ lw_all) (hz : z.name = "<init>") (hd : MdOk z nA)
    (hn : As.length = nA) (hst : st = As.reverse ++ .ref a :: rest) (hcat : (rest.map fun v => v.category).sum ≤ 8) (hdg : decode cc pc = .ok (.invokespecial index, 3)) (hR : f + 1 ≤ Φ.R.frames ∧ 8 + (ny + 11) + L ≤ Φ.R.locals) (hf : k + kc ≤ Φ.R.cells ∧ n + ks ≤ Φ.R.slots)
    (kk : ∀ (v : Option Value) (ws' : va_W), py v ws' → Vg Φ nL ws' (k + kc) (n + ks) (pc + 3) lv (v.toList ++ rest)) : Vg Φ nL ws k n pc lv st := by
  refine v_run F (py := py) (kc := kc) (ks := ks) (a := (Value.ref a :: As).toArray) (fun H locs ls hW hls => ?_) kk
  exact va_runI F.fix hM (cwI nA F.ts (lw_meth hcode) rfl rfl rfl (F.ts _ hini) (F.ts _ hlk) (F.ts _ hin) hz hd hR) ⟨PV.blind _ _ _, hW.pre F.wm⟩ rfl hn hls hst (lv_room hcat) hdg hf
theorem v_callIN (F : Fcv Φ cc y nL ret post mc ms) {z : MethodName} {cy : ByteArray} {ny : Nat} {f L : Nat} {As : List Value} {a : Nat} {py : Option Value → va_W → Prop} {kc ks : Nat}
    (hM : Cv Φ.l z cy ny none Φ.E f L (.ref a :: As) ws py kc ks) {index nA : Nat} {host : String} (hcode : Cond.code z cy ny none ∈ lw_all) (hini : Cond.initialized z.cls ∈ lw_all) (hlk : Cond.methodLinkNest y.cls index z host ∈ lw_tbl) (hin : Cond.instanceMethod z ∈ lw_all) (hz : z.name = "<init>") (hd : MdOk z nA)
    (hn : As.length = nA) (hst : st = As.reverse ++ .ref a :: rest) (hcat : (rest.map fun v => v.category).sum ≤ 8) (hdg : decode cc pc = .ok (.invokespecial index, 3)) (hR : f + 1 ≤ Φ.R.frames ∧ 8 + (ny + 11) + L ≤ Φ.R.locals) (hf : k + kc ≤ Φ.R.cells ∧ n + ks ≤ Φ.R.slots)
    (kk : ∀ (v : Option Value) (ws' : va_W), py v ws' → Vg Φ nL ws' (k + kc) (n + ks) (pc + 3) lv (v.toList ++ rest)) : Vg Φ nL ws k n pc lv st := by
  refine v_run F (py := py) (kc := kc) (ks := ks) (a := (Value.ref a :: As).toArray) (fun H locs ls hW hls => ?_) kk
  exact va_runIN F.fix hM ⟨va_cnB nA F.ts (lw_meth hcode) rfl rfl rfl (va_Nw.warmM F.wm (F.ok.2 _ hlk)) (F.ts _ hini) hd hR, hz, F.ts _ hin⟩ ⟨PV.blind _ _ _, hW.pre F.wm⟩ rfl hn hls hst (lv_room hcat) hdg hf
end VR
