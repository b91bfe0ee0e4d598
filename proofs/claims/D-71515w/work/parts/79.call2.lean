/-! rows: calls of a superclass's method, through an interface, of an interface's own method -/
theorem lw_SU {own : String} {idx : Nat} {y : MethodName} {b : ByteArray} {L : Nat} {r : Option FieldType} (h1 : Cond.methodLink own idx y ∈ lw_all) (h2 : Cond.sameMethod y.cls y.cls y.name y.desc ∈ lw_all) (h3 : Cond.superclass own y.cls ∈ lw_all) (h4 : Cond.instanceMethod y ∈ lw_all) (h5 : Cond.initialized y.cls ∈ lw_all) (h6 : Cond.code y b L r ∈ lw_all) : GoodIn lw_all (va_wsSU own idx y (ws_ y b L r)) := by
  refine lw_app ?_ (lw_meth h6)
  intro w hw
  simp only [List.mem_cons, List.not_mem_nil, or_false] at hw
  rcases hw with e | e | e | e | e <;> rw [e] <;> assumption
theorem lw_F {own C : String} {idx : Nat} {x y : MethodName} {b : ByteArray} {L : Nat} {r : Option FieldType} (h1 : Cond.methodLink own idx x ∈ lw_all) (h2 : Cond.selects C x y ∈ lw_all) (h3 : Cond.instanceMethod y ∈ lw_all) (h4 : Cond.initialized y.cls ∈ lw_all) (h5 : Cond.code y b L r ∈ lw_all) : GoodIn lw_all (va_wsF own idx C x y (ws_ y b L r)) := by
  refine lw_app ?_ (lw_meth h5)
  intro w hw
  simp only [List.mem_cons, List.not_mem_nil, or_false] at hw
  rcases hw with e | e | e | e <;> rw [e] <;> assumption
/-- objects of the class C go, called through the interface's method x, to x itself -/
def LD (C : String) (x : MethodName) (U : State) : Prop := ∃ c r, U.vm.findClass C = some c ∧ U.methodNamed? x = some r ∧ selectMethod {} U.vm c r = .method r
theorem LD.moved {C : String} {x : MethodName} {u U : State} (h : u.vm.Alike U.vm) (q : LD C x u) : LD C x U := by
  obtain ⟨c, r, h1, h2, h3⟩ := q
  refine ⟨c, r, by rw [h.findClass]; exact h1, ?_, by rw [h.selectMethod]; exact h3⟩
  have e : (u.setVm U.vm).methodNamed? x = u.methodNamed? x := State.methodNamed?_setVm h x
  exact e.trans h2
section C2
variable {Φ : PH} {cc : ByteArray} {own : String} {nL : Nat} {ret : Option FieldType} {post : Option Value → GG → Prop} {mc ms : Nat} {γ : GG} {k n pc : Nat} {lv lv' : List (Nat × Value)} {st rest : List Value}
theorem w_callSU (F : Fx Φ cc own nL ret post mc ms) {y : MethodName} {cy : ByteArray} {ny : Nat} {ry : Option FieldType} {f L : Nat} {As : List Value} {key : Nat} {py : Option Value → GG → Prop} {kc ks : Nat}
    (hM : Ct Φ.l y cy ny ry Φ.E f L (.ref (Φ.E.ad key) :: As) γ py kc ks) {index nA : Nat} (hT : GoodIn lw_all (va_wsSU own index y (ws_ y cy ny ry))) (hno : y.name ≠ "<init>") (hd : MdOk y nA) (hkey : key < Φ.E.nk) {ci : Nat} {fs : List Value} (hcell : cellOf Φ.E γ key = .inr (ci, fs)) {q : vw_C} (hc : vwCl[ci]? = some q)
    (hn : As.length = nA) (hst : st = As.reverse ++ .ref (Φ.E.ad key) :: rest) (hcat : (rest.map fun v => v.category).sum ≤ 8) (hdg : decode cc pc = .ok (.invokespecial index, 3)) (hR : f + 1 ≤ Φ.R.frames ∧ 8 + (ny + 11) + L ≤ Φ.R.locals) (hf : k + kc ≤ Φ.R.cells ∧ n + ks ≤ Φ.R.slots)
    (kk : ∀ (v : Option Value) (γ' : GG), py v γ' → Wg Φ nL γ' (k + kc) (n + ks) (pc + 3) lv (v.toList ++ rest)) : Wg Φ nL γ k n pc lv st := by
  refine w_run F (py := py) (kc := kc) (ks := ks) (a := (Value.ref (Φ.E.ad key) :: As).toArray) (fun H locs ls hW hls => ?_) kk
  exact va_runSU (C := q.1) (F.K.1 ci q hc).2 F.fix hM (va_cwSU nA F.ts hT rfl rfl rfl ⟨hno, hd.2.2⟩ hR) ⟨PG.blind _ _ _, recvOf F hW hkey hcell hc, hW.pre F.wm⟩ rfl hn hls hst (lv_room hcat) hdg hf
theorem w_run5 (F : Fx Φ cc own nL ret post mc ms) {py : Option Value → GG → Prop} {kc ks : Nat} {a : Array Value}
    (hr : ∀ (H : Heap) (locs : List Loc) (ls : Array Slot), World Φ.E γ H → ls.size = nL → va_Run5 Φ.p Φ.l Φ.e Φ.R Φ.s Φ.m Φ.args Φ.below Φ.meth Φ.c H locs k n kc ks (F0 Φ.m pc ls st) rest (QG Φ.E py a) (fun q => Φ.E.bs ≤ q))
    (kk : ∀ (v : Option Value) (γ' : GG), py v γ' → Wg Φ nL γ' (k + kc) (n + ks) (pc + 5) lv (v.toList ++ rest)) : Wg Φ nL γ k n pc lv st := by
  intro H locs ls hW hS hl T hT X
  obtain ⟨v, st₀, t, T', L, h0, X', hL, e1, e2, ⟨v2, γ', hv, hp, hw1, hz, hk⟩, stp⟩ := hr H locs ls hW hl.1 T hT X
  cases hv
  rw [h0] at hz hk
  have hS1 : va_S (fun q => Φ.E.bs ≤ q) Φ.s.heap T'.heap (locs ++ L) := ⟨Nat.le_trans hS.1 (by rw [e1]; exact hz), fun q h1 h2 => by rw [e1, hk q (Nat.lt_of_lt_of_le h1 hS.1) h2]; exact hS.2.1 q h1 h2, fun q hq => by
      rcases List.mem_append.mp hq with h | h
      · exact hS.2.2 q h
      · exact hL q h⟩
  obtain ⟨t2, a1, b1⟩ := kk v γ' hp T'.heap (locs ++ L) ls (by rw [e1]; exact hw1) hS1 hl T' rfl X'
  exact ⟨t2, stp t2 a1, b1⟩
theorem w_callF (F : Fx Φ cc own nL ret post mc ms) {x y : MethodName} {cy : ByteArray} {ny : Nat} {ry : Option FieldType} {f L : Nat} {As : List Value} {key : Nat} {py : Option Value → GG → Prop} {kc ks : Nat}
    (hM : Ct Φ.l y cy ny ry Φ.E f L (.ref (Φ.E.ad key) :: As) γ py kc ks) {index count nA : Nat} {C : String} (hT : GoodIn lw_all (va_wsF own index C x y (ws_ y cy ny ry))) (hF : va_Fw C x y Φ.E.S) (hd : MdOk x nA) (hkey : key < Φ.E.nk) {ci : Nat} {fs : List Value} (hcell : cellOf Φ.E γ key = .inr (ci, fs)) {q : vw_C} (hc : vwCl[ci]? = some q) (hq : q.1 = C)
    (hn : As.length = nA) (hst : st = As.reverse ++ .ref (Φ.E.ad key) :: rest) (hcat : (rest.map fun v => v.category).sum ≤ 8) (hdg : decode cc pc = .ok (.invokeinterface index count, 5)) (hR : f + 1 ≤ Φ.R.frames ∧ 8 + (ny + 11) + L ≤ Φ.R.locals) (hf : k + kc ≤ Φ.R.cells ∧ n + ks ≤ Φ.R.slots)
    (kk : ∀ (v : Option Value) (γ' : GG), py v γ' → Wg Φ nL γ' (k + kc) (n + ks) (pc + 5) lv (v.toList ++ rest)) : Wg Φ nL γ k n pc lv st := by
  subst hq
  refine w_run5 F (py := py) (kc := kc) (ks := ks) (a := (Value.ref (Φ.E.ad key) :: As).toArray) (fun H locs ls hW hls => ?_) kk
  exact va_runF (C := q.1) (F.K.1 ci q hc).2 F.fix hM (va_cwF nA F.ts hT rfl rfl rfl (va_Fw.moved ⟨hd.1, hd.2.1⟩ F.wm.alike hF) hd hR) ⟨PG.blind _ _ _, recvOf F hW hkey hcell hc, hW.pre F.wm⟩ rfl hn hls hst (lv_room hcat) hdg hf
theorem w_callD (F : Fx Φ cc own nL ret post mc ms) {x : MethodName} {cy : ByteArray} {ny : Nat} {ry : Option FieldType} {f L : Nat} {As : List Value} {key : Nat} {py : Option Value → GG → Prop} {kc ks : Nat}
    (hM : Ct Φ.l x cy ny ry Φ.E f L (.ref (Φ.E.ad key) :: As) γ py kc ks) {index count nA : Nat} {C : String} (w1 : Cond.methodLink own index x ∈ lw_all) (w2 : Cond.instanceMethod x ∈ lw_all) (w3 : Cond.initialized x.cls ∈ lw_all) (w4 : Cond.code x cy ny ry ∈ lw_all) (hF : va_Fw C x x Φ.E.S) (hL : LD C x Φ.E.S) (hd : MdOk x nA) (hkey : key < Φ.E.nk) {ci : Nat} {fs : List Value} (hcell : cellOf Φ.E γ key = .inr (ci, fs)) {q : vw_C} (hc : vwCl[ci]? = some q) (hq : q.1 = C)
    (hn : As.length = nA) (hst : st = As.reverse ++ .ref (Φ.E.ad key) :: rest) (hcat : (rest.map fun v => v.category).sum ≤ 8) (hdg : decode cc pc = .ok (.invokeinterface index count, 5)) (hR : f + 1 ≤ Φ.R.frames ∧ 8 + (ny + 11) + L ≤ Φ.R.locals) (hf : k + kc ≤ Φ.R.cells ∧ n + ks ≤ Φ.R.slots)
    (kk : ∀ (v : Option Value) (γ' : GG), py v γ' → Wg Φ nL γ' (k + kc) (n + ks) (pc + 5) lv (v.toList ++ rest)) : Wg Φ nL γ k n pc lv st := by
  subst hq
  refine w_run5 F (py := py) (kc := kc) (ks := ks) (a := (Value.ref (Φ.E.ad key) :: As).toArray) (fun H locs ls hW hls => ?_) kk
  obtain ⟨cellB, hcB, hoB, hclB⟩ := recvOf F hW hkey hcell hc
  obtain ⟨hfc, kB, hkB, -⟩ := (F.K.1 ci q hc).2
  rw [Option.some.inj (hfc.symm.trans hclB)] at hkB
  obtain ⟨f1, f2, f3, f4, f5⟩ := va_Fw.moved ⟨hd.1, hd.2.1⟩ F.wm.alike hF
  obtain ⟨c2, r2, l1, l2, l3⟩ := hL.moved F.wm.alike
  cases l1.symm.trans hclB
  have hini := F.ts _ w3
  have hK : Back Φ.l Φ.R Φ.p Φ.e Φ.below Φ.s Φ.args x 5 8 (PreOf Φ.R kc ks (PG Φ.E (.ref (Φ.E.ad key) :: As) γ)) (PostOf (QG Φ.E py) kc ks (fun q => Φ.E.bs ≤ q)) := back_of (bytes := cy) (maxL := ny) (ret := ry) hM (PG.blind _ _ _) rfl rfl hR.1 hR.2 (pay_in F.ts (lw_meth w4)) List.mem_cons_self (fun a' U hW => word_at hW (Or.inl (by first | rfl | simp [Cond.onTables, Cond.keeps, Cond.steady])) hini)
  intro T hT X
  obtain ⟨r0, rr, a1, a2, a3, a4⟩ := Cond.declares_spec f1
  obtain ⟨cL, kL, r1, b1, b2, b3, b4, b5⟩ := Cond.interfaceMethod_spec f2
  cases a1.symm.trans b5
  cases a1.symm.trans l2
  have hr0 : r2.cls = cL := Option.some.inj ((findClass_of_methodNamed a1).symm.trans b1)
  obtain ⟨d1, d2⟩ := name_of_methodNamed a1 a2
  obtain ⟨mk, mM, g1, g2, -, g4⟩ := Cond.instanceMethod_spec (F.ts _ w2)
  cases a1.symm.trans g1
  obtain ⟨c3, t3, i1, i2, i3⟩ := Cond.castable_spec f5
  cases hclB.symm.trans i1
  cases b1.symm.trans i2
  obtain ⟨vm₁, X₁, s1⟩ := X.invokeinterface F.x F.ow (F.ts _ w1) a1 a2 a3 (by rw [hr0]; exact b2) b3 ⟨hd.1, hd.2.1⟩ (a := Φ.E.ad key) (cell := cellB) (kcell := kB) (by rw [hT]; exact hcB) (fun z h => by rw [h] at hoB; cases hoB) hkB (by rw [hr0]; exact i3) (by rw [Launch.admits_selectMethod X.admits]; exact l3) g2 (by rw [d1, d2]; exact Cond.unhidden_spec hclB f4) (Cond.publicMethod_spec g1 g2 f3) g4 (g := F0 Φ.m pc ls st) rfl (argsL := As) (rest := rest) (by
    have h2 := hd.2.2
    rw [a4] at h2
    rw [hn]
    exact (Option.some.inj h2).symm) hst (by rw [F.b]; exact hdg)
  obtain ⟨v, ⟨U', l2', c2', s2'⟩, X', ⟨g', mk', t, L', e1, e2, hq, j1, jL, j2, j3⟩, hsteps⟩ := hK Φ.m Φ.meth Φ.c ⟨T.setVm vm₁, locs, k, n⟩ { (F0 Φ.m pc ls st) with stack := rest } (.invokeinterface index count) r2 (Value.ref (Φ.E.ad key) :: As).toArray X₁ rfl (hls.trans F.ml.symm) (by rw [F.b]; exact hdg) (lv_room hcat) (X₁.named a1) ⟨hf.1, hf.2, hW.pre F.wm (T.setVm vm₁) hT X₁.warmed⟩
  dsimp only [Pt.U, Pt.locs, Pt.cells, Pt.slots] at X' e1 e2 j1 j2 j3 hsteps
  subst j1; subst j2; subst j3
  exact ⟨v, (T.setVm vm₁).calling g' mk' (Value.ref (Φ.E.ad key) :: As).toArray, t, U', L', hT, X', jL, e1, e2, hq, fun target h => s1 _ fun acts => by rw [doInvoke_state]; exact hsteps.trans h⟩
end C2
