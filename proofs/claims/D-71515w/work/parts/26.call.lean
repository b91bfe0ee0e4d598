/-! rows: calls by contract -/
def MdOk (y : MethodName) (n : Nat) : Prop := y.cls ≠ "java/lang/invoke/MethodHandle" ∧ y.cls ≠ "java/lang/invoke/VarHandle" ∧ (parseMethodDescriptor y.desc).map (fun d => d.parameters.length) = some n
section CA
variable {Φ : PH} {cc : ByteArray} {own : String} {nL : Nat} {ret : Option FieldType} {post : Option Value → GG → Prop} {mc ms : Nat} {γ : GG} {k n pc : Nat} {lv lv' : List (Nat × Value)} {st rest : List Value}
theorem World.pre {E : EE} {s : State} {H : Heap} {av : List Value} (hW : World E γ H) (hwm : E.S.WarmedH s.vm) : ∀ U : State, U.heap = H → s.WarmedH U.vm → PG E av γ av.toArray U := fun U hU hw => ⟨rfl, by rw [hU]; exact hW, State.WarmedH.trans hwm hw⟩
theorem w_run (F : Fx Φ cc own nL ret post mc ms) {py : Option Value → GG → Prop} {kc ks : Nat} {a : Array Value}
    (hr : ∀ (H : Heap) (locs : List Loc) (ls : Array Slot), World Φ.E γ H → ls.size = nL → va_Run Φ.p Φ.l Φ.e Φ.R Φ.s Φ.m Φ.args Φ.below Φ.meth Φ.c H locs k n kc ks (F0 Φ.m pc ls st) rest (QG Φ.E py a) (fun q => Φ.E.bs ≤ q))
    (kk : ∀ (v : Option Value) (γ' : GG), py v γ' → Wg Φ nL γ' (k + kc) (n + ks) (pc + 3) lv (v.toList ++ rest)) : Wg Φ nL γ k n pc lv st := by
  intro H locs ls hW hS hl T hT X
  obtain ⟨v, st₀, t, T', L, h0, X', hL, e1, e2, ⟨v2, γ', hv, hp, hw1, hz, hk⟩, stp⟩ := hr H locs ls hW hl.1 T hT X
  cases hv
  rw [h0] at hz hk
  have hS1 : va_S (fun q => Φ.E.bs ≤ q) Φ.s.heap T'.heap (locs ++ L) := ⟨Nat.le_trans hS.1 (by rw [e1]; exact hz), fun q h1 h2 => by rw [e1, hk q (Nat.lt_of_lt_of_le h1 hS.1) h2]; exact hS.2.1 q h1 h2, fun q hq => by
      rcases List.mem_append.mp hq with h | h
      · exact hS.2.2 q h
      · exact hL q h⟩
  obtain ⟨t2, a1, b1⟩ := kk v γ' hp T'.heap (locs ++ L) ls (by rw [e1]; exact hw1) hS1 hl T' rfl X'
  exact ⟨t2, stp t2 a1, b1⟩
theorem Fx.fix (F : Fx Φ cc own nL ret post mc ms) : CallFix Φ.p Φ.m Φ.c cc nL Φ.s Φ.args lw_all own := ⟨F.x, F.b, F.ml, F.ow, F.ts⟩
theorem recvOf (F : Fx Φ cc own nL ret post mc ms) {H : Heap} {key ci : Nat} {fs : List Value} {q : vw_C} (hW : World Φ.E γ H) (hkey : key < Φ.E.nk) (hcell : cellOf Φ.E γ key = .inr (ci, fs)) (hc : vwCl[ci]? = some q) : ∃ cell : Cell, H[Φ.E.ad key]? = some cell ∧ cell.vm.isStatics = false ∧ Φ.s.vm.findClass q.1 = some cell.cls := by
  have he := wsOf_at (E := Φ.E) (γ := γ) hkey
  rw [hcell] at he
  exact va_recv F.K hW.1 hc he
/-- a call of an instance method on a cell of the picture -/
theorem w_callV (F : Fx Φ cc own nL ret post mc ms) {y : MethodName} {cy : ByteArray} {ny : Nat} {ry : Option FieldType} {f L : Nat} {As : List Value} {key : Nat} {py : Option Value → GG → Prop} {kc ks : Nat}
    (hM : Ct Φ.l y cy ny ry Φ.E f L (.ref (Φ.E.ad key) :: As) γ py kc ks) {index nA : Nat} (hT : GoodIn lw_all (wsV own index y.cls y (ws_ y cy ny ry))) (hd : MdOk y nA) (hkey : key < Φ.E.nk) {ci : Nat} {fs : List Value} (hcell : cellOf Φ.E γ key = .inr (ci, fs)) {q : vw_C} (hc : vwCl[ci]? = some q) (hq : q.1 = y.cls)
    (hn : As.length = nA) (hst : st = As.reverse ++ .ref (Φ.E.ad key) :: rest) (hcat : (rest.map fun v => v.category).sum ≤ 8) (hdg : decode cc pc = .ok (.invokevirtual index, 3)) (hR : f + 1 ≤ Φ.R.frames ∧ 8 + (ny + 11) + L ≤ Φ.R.locals) (hf : k + kc ≤ Φ.R.cells ∧ n + ks ≤ Φ.R.slots)
    (kk : ∀ (v : Option Value) (γ' : GG), py v γ' → Wg Φ nL γ' (k + kc) (n + ks) (pc + 3) lv (v.toList ++ rest)) : Wg Φ nL γ k n pc lv st := by
  refine w_run F (py := py) (kc := kc) (ks := ks) (a := (Value.ref (Φ.E.ad key) :: As).toArray) (fun H locs ls hW hls => ?_) kk
  exact va_runV (C := y.cls) F.fix hM (cwV nA F.ts hT rfl rfl rfl ⟨rfl, hd⟩ hR) ⟨PG.blind _ _ _, hq ▸ recvOf F hW hkey hcell hc, hW.pre F.wm⟩ rfl hn hls hst (lv_room hcat) hdg hf
/-- a static call -/
theorem w_callS (F : Fx Φ cc own nL ret post mc ms) {y : MethodName} {cy : ByteArray} {ny : Nat} {ry : Option FieldType} {f L : Nat} {As : List Value} {py : Option Value → GG → Prop} {kc ks : Nat}
    (hM : Ct Φ.l y cy ny ry Φ.E f L As γ py kc ks) {index nA : Nat} (hT : GoodIn lw_all (va_wsS own index y (ws_ y cy ny ry))) (hd : MdOk y nA)
    (hn : As.length = nA) (hst : st = As.reverse ++ rest) (hcat : (rest.map fun v => v.category).sum ≤ 8) (hdg : decode cc pc = .ok (.invokestatic index, 3)) (hR : f + 1 ≤ Φ.R.frames ∧ 8 + (ny + 11) + L ≤ Φ.R.locals) (hf : k + kc ≤ Φ.R.cells ∧ n + ks ≤ Φ.R.slots)
    (kk : ∀ (v : Option Value) (γ' : GG), py v γ' → Wg Φ nL γ' (k + kc) (n + ks) (pc + 3) lv (v.toList ++ rest)) : Wg Φ nL γ k n pc lv st := by
  refine w_run F (py := py) (kc := kc) (ks := ks) (a := As.toArray) (fun H locs ls hW hls => ?_) kk
  exact va_runS F.fix hM (va_cwS nA F.ts hT rfl rfl rfl hd hR) ⟨PG.blind _ _ _, hW.pre F.wm⟩ rfl hn hls hst (lv_room hcat) hdg hf
end CA
