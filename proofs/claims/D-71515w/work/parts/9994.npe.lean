/-! a NullPointerException that the machine makes, caught in the method itself -/
theorem al_c {P : Cond → Prop} {a : Cond} {L : List Cond} (h : P a) (hL : ∀ x ∈ L, P x) : ∀ x ∈ a :: L, P x := fun x hx => by
  rcases List.mem_cons.mp hx with e | e
  · rw [e]; exact h
  · exact hL x e
theorem al_n {P : Cond → Prop} : ∀ x ∈ ([] : List Cond), P x := fun x hx => by cases hx
theorem al_a {P : Cond → Prop} {A B : List Cond} (h1 : ∀ x ∈ A, P x) (h2 : ∀ x ∈ B, P x) : ∀ x ∈ A ++ B, P x := fun x hx => by
  rcases List.mem_append.mp hx with e | e
  · exact h1 x e
  · exact h2 x e
theorem lys_moved {O f d : String} {A A' : Array Value} {u U : State} (hW : u.WarmedH U.vm) (hh : ∀ q : Nat, q < u.heap.size → U.heap[q]? = u.heap[q]?) (h : (Cond.laysStatic O f d).before A u = true) : (Cond.laysStatic O f d).before A' U = true := by
  obtain ⟨c, k, i, fd, a, cell, hc, hi, hst, ha, hcell, hs, hcls, hlt, hty⟩ := Cond.laysStatic_spec h
  obtain ⟨k', hi', hek⟩ := State.fieldFound?_setVm hW.alike hi
  exact Cond.laysStatic_of (s := U) (by rw [hW.alike.findClass]; exact hc) (show U.fieldFound? O f d = _ from hi') hst (by rw [hek]; exact ha) (by rw [hh a (Array.getElem?_eq_some_iff.mp hcell).1]; exact hcell) hs hcls hlt (by rw [hek]; exact hty)
theorem isr_moved {O f d : String} {A A' : Array Value} {u U : State} (hW : u.WarmedH U.vm) (hh : ∀ q : Nat, q < u.heap.size → U.heap[q]? = u.heap[q]?) (hl : (Cond.laysStatic O f d).before A u = true) (h : (Cond.isRef (.static O f d)).before A u = true) : (Cond.isRef (.static O f d)).before A' U = true := by
  obtain ⟨c, k, i, fd, a, cell, hc, hi, hst, ha, hcell, hs, hcls, hlt, hty⟩ := Cond.laysStatic_spec hl
  obtain ⟨r, hr⟩ := Cond.staticRefV hi hst ha hcell hs h
  obtain ⟨k', hi', hek⟩ := State.fieldFound?_setVm hW.alike hi
  have hi2 : U.fieldFound? O f d = some (c, k', i, fd) := hi'
  have ha' : k'.statics = some a := by rw [hek]; exact ha
  have hcell' : U.heap[a]? = some cell := by rw [hh a (Array.getElem?_eq_some_iff.mp hcell).1]; exact hcell
  have he : (Term.static O f d).eval A' U none [] U = some r.v := by simp [Term.eval, State.fieldNamed?, hi2, hst, ha', hcell', hs, hr]
  obtain ⟨v, hv⟩ := r
  show (Cond.isRef (.static O f d)).holds A' U none U [] = true
  simp only [Cond.holds, Cond.value]
  rw [he]
  cases v <;> simp [Value.isRef] at hv ⊢
/-- the two statics that an exception's making reads: told once, at the law's start -/
def StOk (E : EE) : Prop := (Cond.isRef (.static Bundle.tN "UNASSIGNED_STACK" Bundle.steD)).before #[] E.S = true ∧ (Cond.isRef (.static Bundle.tN "SUPPRESSED_SENTINEL" Bundle.listD)).before #[] E.S = true
theorem World.grow {E : EE} {γ : GG} {H H1 : Heap} (hW : World E γ H) (hz : H.size ≤ H1.size) (hk : ∀ q : Nat, q < H.size → H1[q]? = H[q]?) : World E γ H1 := by
  refine ⟨hW.1.kept (fun k q hq => ?_), hW.2.1, Nat.le_trans hW.2.2.1 hz, fun q hq => by rw [hk q (Nat.lt_of_lt_of_le hq hW.2.2.1)]; exact hW.2.2.2 q hq⟩
  have h := hW.1 k q hq
  obtain ⟨a, e⟩ := q
  refine hk a ?_
  cases e with
  | inl w => exact (Array.getElem?_eq_some_iff.mp (show H[a]? = some _ from h)).1
  | inr w =>
    obtain ⟨r, _, cell, hc, _⟩ := h
    exact (Array.getElem?_eq_some_iff.mp hc).1
section NPW
variable {Φ : PH} {cc : ByteArray} {own : String} {nL : Nat} {ret : Option FieldType} {post : Option Value → GG → Prop} {mc ms : Nat} {γ : GG} {k n pc : Nat} {lv lv' : List (Nat × Value)} {st : List Value}
theorem Fx.old (F : Fx Φ cc own nL ret post mc ms) {H : Heap} {locs : List Loc} (hW : World Φ.E γ H) (hS : va_S (fun q => Φ.E.bs ≤ q) Φ.s.heap H locs) : ∀ q : Nat, q < Φ.E.S.heap.size → Φ.s.heap[q]? = Φ.E.S.heap[q]? := fun q hq => by
  rw [← hS.2.1 q (Nat.lt_of_lt_of_le hq F.bs) (Nat.not_le.mpr hq)]
  exact hW.2.2.2 q hq
theorem npe_at (F : Fx Φ cc own nL ret post mc ms) (hN : StOk Φ.E) (hh : ∀ q : Nat, q < Φ.E.S.heap.size → Φ.s.heap[q]? = Φ.E.S.heap[q]?) : ∀ a ∈ Bundle.npeArmAtoms 8, a.before Φ.args Φ.s = true := by
  have t := F.ts
  have cst : ∀ {C T : String}, Cond.castable C T ∈ lw_tbl → (Cond.castable C T).before Φ.args Φ.s = true := fun hq => va_Nw.use rfl (va_Nw.warmC F.wm (F.ok.2.2 _ hq))
  have dcl : ∀ {x : MethodName}, Cond.declares x ∈ lw_tbl → (Cond.declares x).before Φ.args Φ.s = true := fun hq => va_Nw.use rfl (va_Nw.warmD F.wm (F.ok.2.2 _ hq))
  have lys : ∀ {O f d : String}, Cond.laysStatic O f d ∈ lw_tbl → (Cond.laysStatic O f d).before Φ.args Φ.s = true := fun hq => lys_moved F.wm hh (F.ok.2.2 _ hq)
  have isr : ∀ {O f d : String}, Cond.laysStatic O f d ∈ lw_tbl → (Cond.isRef (.static O f d)).before #[] Φ.E.S = true → (Cond.isRef (.static O f d)).before Φ.args Φ.s = true := fun hq h => isr_moved F.wm hh (F.ok.2.2 _ hq) h
  have h1 : ∀ a ∈ Bundle.throwableAtoms, a.before Φ.args Φ.s = true := al_c (t _ q81) (al_c (t _ q328) (al_c (t _ q337) (al_c (t _ q353) (al_c (t _ q356) (al_c (t _ q358) (al_c (t _ q329) (al_c (t _ q330) (al_c (t _ q96) (al_c (t _ q97) (al_c (t _ q331) (al_c (t _ q336) (al_c (t _ q354) (al_c (t _ q374) (al_c (t _ q318) (al_c (t _ q375) (al_c (t _ q320) (al_c (t _ q376) (al_c (t _ q322) (al_c (t _ q332) (al_c (lys q333) (al_c (t _ q334) (al_c (lys q335) (al_c (t _ q324) al_n)))))))))))))))))))))))
  have h2 : ∀ a ∈ Bundle.npeAtoms, a.before Φ.args Φ.s = true := al_c (t _ q350) (al_c (t _ q340) (al_c (t _ q341) (al_c (t _ q626) (al_c (t _ q628) (al_c (t _ q347) (al_c (t _ q348) (al_c (cst q640) al_n)))))))
  have h3 : ∀ a ∈ Bundle.passAtoms Bundle.nN Bundle.rN 1 LibCode.NullPointerException.Init0.code, a.before Φ.args Φ.s = true := al_c (t _ q617) (al_c (t _ q618) (al_c (t _ q619) (al_c (t _ q620) (al_c (dcl q309) al_n))))
  have h4 : ∀ a ∈ Bundle.passAtoms Bundle.rN Bundle.eN 1 LibCode.RuntimeException.Init0.code, a.before Φ.args Φ.s = true := al_c (t _ q620) (al_c (t _ q621) (al_c (t _ q622) (al_c (t _ q623) (al_c (dcl q311) al_n))))
  have h5 : ∀ a ∈ Bundle.passAtoms Bundle.eN Bundle.tN 1 LibCode.Exception.Init0.code, a.before Φ.args Φ.s = true := al_c (t _ q623) (al_c (t _ q624) (al_c (t _ q625) (al_c (t _ q329) (al_c (dcl q313) al_n))))
  refine al_a (al_a (al_a (al_a (al_a h1 h2) h3) h4) h5) ?_
  exact al_c (t _ q89) (al_c (t _ q345) (al_c (cst q638) (al_c (t _ q639) (al_c (t _ q339) (al_c (t _ q634) (al_c (t _ q635) (al_c (t _ q637) (al_c (isr q333 hN.1) (al_c (isr q335 hN.2) (al_c (t _ q372) (al_c (t _ q326) (al_c (t _ q632) al_n))))))))))))
end NPW
