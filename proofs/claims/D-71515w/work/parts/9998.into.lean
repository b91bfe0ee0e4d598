/-! a call without a contract of the library's: into the body and out of it, returned or thrown; isAhead -/
theorem stp_weak {tb : Tables} {e : Env} {f : Frame} {below : List Frame} {s t : State} (h : Steps tb e (f :: below) s t) : Steps tb e below s t := by
  obtain ⟨n, hn, wn⟩ := h
  exact ⟨n, hn, fun k hk => Within.weaken (mid := [f]) (wn k hk)⟩
/-- an object of the class Fault -/
def FaultAt (E : EE) (x : Nat) (H : Heap) : Prop := ∃ cell : Cell, H[x]? = some cell ∧ cell.vm = .none ∧ E.S.vm.findClass "DeadlineTree$Fault" = some cell.cls
/-- an invocation's end by a throw -/
def TQ (E : EE) (thr : GG → Prop) (below : List Frame) (s : State) (mc ms : Nat) : State → Prop := fun t =>
  ∃ (x : Nat) (γ' : GG) (L : List Loc), t.status = .running ∧ Ended t below (.threw x) ∧ thr γ' ∧ World E γ' t.heap ∧ va_F (fun q => E.bs ≤ q) s t ∧ FaultAt E x t.heap ∧ s.WarmedH t.vm ∧ s.sameButNew ({ t with vm := s.vm } : State) L mc ms ∧ ∀ q ∈ L, E.bs ≤ q.base
/-- what a body does: it returns, or throws a Fault -/
def Bd (l : Launch) (y : MethodName) (cy : ByteArray) (ny : Nat) (ry : Option FieldType) (E : EE) (f L : Nat) (av : List Value) (γ : GG) (py : Option Value → GG → Prop) (thr : GG → Prop) (kc ks : Nat) : Prop :=
  ∀ Φ : PH, Φ.l = l → Φ.E = E → Fx Φ cy y.cls ny ry py kc ks → (∀ t, TQ Φ.E thr Φ.below Φ.s kc ks t → Φ.Q t) → Φ.c.exceptionTable.toList = [] → f ≤ Φ.R.frames → L ≤ Φ.R.locals → Wg Φ ny γ 0 0 0 (lv_args 0 av) []
section INT
variable {Φ : PH} {cc : ByteArray} {own : String} {nL : Nat} {ret : Option FieldType} {post : Option Value → GG → Prop} {mc ms : Nat} {γ : GG} {k n pc : Nat} {lv lv' : List (Nat × Value)} {st rest : List Value}
/-- what comes of a body that was entered: returned, or thrown -/
def InR2 (Φ : PH) (py : Option Value → GG → Prop) (thr : GG → Prop) (kc ks : Nat) (T1 : State) (locs : List Loc) (k n : Nat) (g : JFrame) (len : Nat) (mk : MethodId) (av : List Value) : Prop :=
  (∃ (v : Option Value) (γ' : GG) (T' : State) (L : List Loc), py v γ' ∧ World Φ.E γ' T'.heap ∧ Stand Φ.p Φ.l Φ.e Φ.R Φ.s Φ.m Φ.args Φ.below Φ.meth Φ.c T' (locs ++ L) (k + kc) (n + ks) ∧ (∀ q ∈ L, Φ.E.bs ≤ q.base) ∧ va_F (fun q => Φ.E.bs ≤ q) T1 T' ∧
      ∀ acts target, Steps Φ.p.tables Φ.e Φ.below (T'.setTop { g with pc := g.pc + len, stack := v.toList ++ g.stack }) target → Steps Φ.p.tables Φ.e Φ.below (doInvoke Φ.e (T1.setTop g) acts mk av.toArray).1 target) ∨
  (∃ (x : Nat) (γ' : GG) (T' : State) (L : List Loc), thr γ' ∧ World Φ.E γ' T'.heap ∧ FaultAt Φ.E x T'.heap ∧ Stand Φ.p Φ.l Φ.e Φ.R Φ.s Φ.m Φ.args Φ.below Φ.meth Φ.c T' (locs ++ L) (k + kc) (n + ks) ∧ (∀ q ∈ L, Φ.E.bs ≤ q.base) ∧ va_F (fun q => Φ.E.bs ≤ q) T1 T' ∧
      ∀ acts target, Steps Φ.p.tables Φ.e Φ.below ((T'.setTop g).pushFrame (.throwing x)) target → Steps Φ.p.tables Φ.e Φ.below (doInvoke Φ.e (T1.setTop g) acts mk av.toArray).1 target)
theorem top_heap (T : State) (g : JFrame) : (T.setTop g).heap = T.heap := by simp [State.setTop, State.modifyTopJava]
theorem push_heap (T : State) (f : Frame) : (T.pushFrame f).heap = T.heap := by simp [State.pushFrame, State.setFrames]
theorem call_heap (T : State) (g : JFrame) (mk : MethodId) (a : Array Value) : (T.calling g mk a).heap = T.heap := by
  unfold State.calling
  rw [push_heap, top_heap]
theorem call_vm (T : State) (g : JFrame) (mk : MethodId) (a : Array Value) : (T.calling g mk a).vm = T.vm := by simp [State.calling, State.pushFrame, State.setFrames, State.setTop, State.modifyTopJava]
theorem inCall (F : Fx Φ cc own nL ret post mc ms) {T1 : State} {locs : List Loc} (X : Stand Φ.p Φ.l Φ.e Φ.R Φ.s Φ.m Φ.args Φ.below Φ.meth Φ.c T1 locs k n) (hW : World Φ.E γ T1.heap) {g : JFrame} (hg : g.method = Φ.m) (hsize : g.locals.size = nL) (hmon : g.monitorRoom = 0) {ig : Instr} {len : Nat} (hdg : decode cc g.pc = .ok (ig, len))
    {y : MethodName} {cy : ByteArray} {ny : Nat} {ry : Option FieldType} {f L : Nat} {av : List Value} {py : Option Value → GG → Prop} {thr : GG → Prop} {kc ks : Nat} (hB : Bd Φ.l y cy ny ry Φ.E f L av γ py thr kc ks) {mk : MethodId} (hnamed : Φ.s.methodNamed? y = some mk) (hcode : Cond.code y cy ny ry ∈ lw_all) (hy : plainFor y = true) (hlen : (lg_sl av).length ≤ ny)
    (hcat : (g.stack.map fun v => v.category).sum ≤ 8) (hR : f + 1 ≤ Φ.R.frames ∧ 8 + (ny + 11) + L ≤ Φ.R.locals) (hf : k + kc ≤ Φ.R.cells ∧ n + ks ≤ Φ.R.slots) : InR2 Φ py thr kc ks T1 locs k n g len mk av := by
  obtain ⟨methk, ck, hmk, hck, hbytes, hml, hret, hlk, hempty, -⟩ := Cond.code_spec hnamed (F.ts _ hcode)
  have hmk1 : T1.vm.method? mk = some methk := by rw [X.warmed.alike.method?]; exact hmk
  have hn1 : T1.methodNamed? y = some mk := by
    have e : (Φ.s.setVm T1.vm).methodNamed? y = Φ.s.methodNamed? y := State.methodNamed?_setVm X.warmed.alike y
    exact e.trans hnamed
  have htab : ck.exceptionTable.toList = [] := by
    have h0 : ck.exceptionTable.size = 0 := by simpa [Array.isEmpty] using hempty
    exact List.eq_nil_of_length_eq_zero (by simpa using h0)
  have hdg' : decode Φ.c.code g.pc = .ok (ig, len) := by rw [F.b]; exact hdg
  obtain ⟨Y, hdo⟩ := X.into hg (hsize.trans F.ml.symm) hdg' av.toArray (R' := { frames := f, cells := kc, slots := ks, locals := L }) hmk1 hck hlk (State.plainMethod.of_named hy hn1 hmk1) hR.1 (by rw [hmon, hml]; show 2 * 0 + _ + _ + L ≤ _; omega) hf.1 hf.2
  have hvmc : (T1.calling g mk av.toArray).vm = T1.vm := call_vm _ _ _ _
  have hhc : (T1.calling g mk av.toArray).heap = T1.heap := call_heap _ _ _ _
  have hWc : Φ.s.WarmedH (T1.calling g mk av.toArray).vm := by rw [hvmc]; exact X.warmed
  have hwords : ∀ w ∈ lw_all, w.before av.toArray (T1.calling g mk av.toArray) = true := fun w hw => pay_in F.ts (fun w h => lw_self w h) w hw _ _ hWc
  have hown : (T1.calling g mk av.toArray).vm.findClass y.cls = some mk.cls := by
    rw [hvmc]
    exact findClass_of_methodNamed hn1
  obtain ⟨Φ', hΦ'⟩ : ∃ Φ' : PH, Φ' = (Φ.p, Φ.l, Φ.e, { frames := f, cells := kc, slots := ks, locals := L }, T1.calling g mk av.toArray, mk, av.toArray, .java g :: Φ.below, methk, ck, (fun t => MQ (.java g :: Φ.below) (QG Φ.E py) av.toArray (T1.calling g mk av.toArray) kc ks (fun q => Φ.E.bs ≤ q) t ∨ TQ Φ.E thr (.java g :: Φ.below) (T1.calling g mk av.toArray) kc ks t), Φ.E) := ⟨_, rfl⟩
  have F' : Fx Φ' cy y.cls ny ry py kc ks := by
    rw [hΦ']
    exact ⟨F.x, hbytes, hml, hown, hwords, hret, hlk, F.ok, State.WarmedH.trans F.wm hWc, by show Φ.E.bs ≤ (T1.calling g mk av.toArray).heap.size; rw [hhc]; exact hW.2.2.1, fun t ht => Or.inl ht, rfl, rfl⟩
  have hb := hB Φ' (by rw [hΦ']) (by rw [hΦ']) F' (by rw [hΦ']; exact fun t ht => Or.inr ht) (by rw [hΦ']; exact htab) (by rw [hΦ']; exact Nat.le_refl _) (by rw [hΦ']; exact Nat.le_refl _)
  have hl := lv_entry av (n := ny) hlen
  have hh1 : ((T1.setTop g).pushFrame (.java (entryFrame mk av.toArray ck.maxLocals))).heap = T1.heap := by rw [push_heap, top_heap]
  rw [hΦ'] at hb
  obtain ⟨t, st, hq⟩ := hb T1.heap [] _ hW (by show va_S _ (T1.calling g mk av.toArray).heap _ _; rw [hhc]; exact va_S.rf) hl _ hh1 Y
  have st' : ∀ acts target, Steps Φ.p.tables Φ.e Φ.below t target → Steps Φ.p.tables Φ.e Φ.below (doInvoke Φ.e (T1.setTop g) acts mk av.toArray).1 target := fun acts target h => by
    rw [hdo acts]
    refine Steps.trans (stp_weak (f := .java g) ?_) h
    rw [hml, lg_entry_eq]
    rw [hml, lg_entry_eq] at st
    exact st
  rcases hq with ⟨o, h1, h2, ⟨v, γ', ho, hp, hw, hfr⟩, L1, hfe, hL⟩ | ⟨x, γ', L1, h1, h2, h3, h4, h5, h6, h7, h8, h9⟩
  · subst ho
    obtain ⟨-, hwm, hsame⟩ := hfe
    obtain ⟨T', X', -, -, ht⟩ := X.outOf hg hdg' h2 hwm hsame
    have hth : t.heap = T'.heap := by rw [ht, top_heap]
    refine Or.inl ⟨v, γ', T', L1, hp, by rw [← hth]; exact hw, X', hL, ?_, fun acts target h => st' acts target (by rw [ht]; exact h)⟩
    unfold va_F at hfr ⊢
    rw [hhc, hth] at hfr
    exact hfr
  · obtain ⟨T', X', -, -, ht⟩ := X.outOfThrown hg h2 h7 h8
    have hth : t.heap = T'.heap := by rw [ht, push_heap, top_heap]
    refine Or.inr ⟨x, γ', T', L1, h3, by rw [← hth]; exact h4, by rw [← hth]; exact h6, X', h9, ?_, fun acts target h => st' acts target (by rw [ht]; exact h)⟩
    unfold va_F at h5 ⊢
    rw [hhc, hth] at h5
    exact h5
end INT
section BAH
variable {l : Launch} {E : EE}
theorem bd_isAhead (γ : GG) {a : Nat} {r i s j : Int} (h1 : InR r) (h2 : InR i) (h3 : InR s) (h4 : InR j) (thr : GG → Prop) : Bd l yX9_isAhead cX9_isAhead 5 (some .boolean) E 100 16000 [.ref a, .int (iI r), .int (iI i), .int (iI s), .int (iI j)] γ (pI (b2i (r < s ∨ r = s ∧ i < j)) γ) thr 0 0 := by
  intro Φ hLn hΦ F FT htab hfr hlo
  subst hLn; subst hΦ
  have h414 := F.ok.1.2.2
  have hrc := F.rc
  have hrs := F.rs
  show Wg Φ 5 _ 0 0 0 [(0, _), (1, _), (2, _), (3, _), (4, _)] []
  refine w_rng (fun hR => ?_)
  have hz := b2i_01 (r < s ∨ r = s ∧ i < j)
  have hno : ¬ (r < s ∨ r = s ∧ i < j) → Wg Φ 5 γ 0 0 20 [(0, .ref a), (1, .int (iI r)), (2, .int (iI i)), (3, .int (iI s)), (4, .int (iI j))] [] := by
    intro hn
    refine w_iconst F dX9_isAhead_20 ?_
    refine w_top (z' := b2i (r < s ∨ r = s ∧ i < j)) (b2i_f hn).symm ?_
    exact w_zret F (by first | exact Or.inl rfl | exact Or.inr rfl | assumption | omega) (by omega) (by omega) (⟨rfl, rfl⟩) dX9_isAhead_21
  have hye : (r < s ∨ r = s ∧ i < j) → Wg Φ 5 γ 0 0 16 [(0, .ref a), (1, .int (iI r)), (2, .int (iI i)), (3, .int (iI s)), (4, .int (iI j))] [] := by
    intro hn
    refine w_iconst F dX9_isAhead_16 ?_
    refine w_goto F (tgt := 21) dX9_isAhead_17 (by decide) ?_
    refine w_top (z' := b2i (r < s ∨ r = s ∧ i < j)) (b2i_t hn).symm ?_
    exact w_zret F (by first | exact Or.inl rfl | exact Or.inr rfl | assumption | omega) (by omega) (by omega) (⟨rfl, rfl⟩) dX9_isAhead_21
  refine w_iload_n F dX9_isAhead_0 rfl ?_
  refine w_iload_n F dX9_isAhead_1 rfl ?_
  refine w_icmp_lt F (tgt := 16) dX9_isAhead_2 (by decide) (by first | assumption | exact inR0 | exact (hR _ _ _).1 | (constructor <;> omega)) (by first | assumption | exact inR0 | exact (hR _ _ _).1 | (constructor <;> omega)) (fun h => ?_) (fun h => ?_)
  · exact hye (Or.inl h)
  · refine w_iload_n F dX9_isAhead_5 rfl ?_
    refine w_iload_n F dX9_isAhead_6 rfl ?_
    refine w_icmp_ne F (tgt := 20) dX9_isAhead_7 (by decide) (by first | assumption | exact inR0 | exact (hR _ _ _).1 | (constructor <;> omega)) (by first | assumption | exact inR0 | exact (hR _ _ _).1 | (constructor <;> omega)) (fun h5 => ?_) (fun h5 => ?_)
    · exact hno (by omega)
    · refine w_iload_n F dX9_isAhead_10 rfl ?_
      refine w_iload F dX9_isAhead_11 rfl ?_
      refine w_icmp_ge F (tgt := 20) dX9_isAhead_13 (by decide) (by first | assumption | exact inR0 | exact (hR _ _ _).1 | (constructor <;> omega)) (by first | assumption | exact inR0 | exact (hR _ _ _).1 | (constructor <;> omega)) (fun h6 => ?_) (fun h6 => ?_)
      · exact hno (by omega)
      · exact hye (by omega)
end BAH
/-- the four kinds' objects go to the interface's own method -/
def NrOk (E : EE) : Prop := LD RX3 yX9_isAhead E.S ∧ LD RX4 yX9_isAhead E.S ∧ LD RX5 yX9_isAhead E.S ∧ LD RX6 yX9_isAhead E.S
theorem md_isAhead : MdOk yX9_isAhead 4 := by unfold MdOk; decide +kernel
section AHR
variable {Φ : PH} {cc : ByteArray} {own : String} {nL : Nat} {ret : Option FieldType} {post : Option Value → GG → Prop} {mc ms : Nat} {γ : GG} {k n pc : Nat} {lv lv' : List (Nat × Value)} {st rest : List Value}
theorem w_ah (F : Fx Φ cc own nL ret post mc ms) {key : Nat} {index count : Nat} {C : String} (hF : va_Fw C yX9_isAhead yX9_isAhead Φ.E.S) (hL : LD C yX9_isAhead Φ.E.S) (hl : Cond.methodLink own index yX9_isAhead ∈ lw_all) {r i s j : Int} (h1 : InR r) (h2 : InR i) (h3 : InR s) (h4 : InR j) (hkey : key < Φ.E.nk) {ci : Nat} {fs : List Value} (hcell : cellOf Φ.E γ key = .inr (ci, fs)) {q : vw_C} (hc : vwCl[ci]? = some q) (hq : q.1 = C)
    (hcat : (rest.map fun v => v.category).sum ≤ 8) (hdg : decode cc pc = .ok (.invokeinterface index count, 5)) (hR : 101 ≤ Φ.R.frames ∧ 16024 ≤ Φ.R.locals) (hf : k ≤ Φ.R.cells ∧ n ≤ Φ.R.slots)
    (kk : Wg Φ nL γ k n (pc + 5) lv (.int (iI (b2i (r < s ∨ r = s ∧ i < j))) :: rest)) : Wg Φ nL γ k n pc lv (.int (iI j) :: .int (iI s) :: .int (iI i) :: .int (iI r) :: .ref (Φ.E.ad key) :: rest) := by
  subst hq
  intro H locs ls hW hS hlv T hT X
  obtain ⟨cellB, hcB, hoB, hclB⟩ := recvOf F hW hkey hcell hc
  obtain ⟨hfc, kB, hkB, -⟩ := (F.K.1 ci q hc).2
  rw [Option.some.inj (hfc.symm.trans hclB)] at hkB
  have hd := md_isAhead
  obtain ⟨f1, f2, f3, f4, f5⟩ := va_Fw.moved ⟨hd.1, hd.2.1⟩ F.wm.alike hF
  obtain ⟨c2, r2, l1, l2, l3⟩ := hL.moved F.wm.alike
  cases l1.symm.trans hclB
  obtain ⟨r0, rr, a1, a2, a3, a4⟩ := Cond.declares_spec f1
  obtain ⟨cL, kL, r1, b1, b2, b3, b4, b5⟩ := Cond.interfaceMethod_spec f2
  cases a1.symm.trans b5
  cases a1.symm.trans l2
  have hr0 : r2.cls = cL := Option.some.inj ((findClass_of_methodNamed a1).symm.trans b1)
  obtain ⟨d1, d2⟩ := name_of_methodNamed a1 a2
  obtain ⟨mk, mM, g1, g2, -, g4⟩ := Cond.instanceMethod_spec (F.ts _ q493)
  cases a1.symm.trans g1
  obtain ⟨c3, t3, i1, i2, i3⟩ := Cond.castable_spec f5
  cases hclB.symm.trans i1
  cases b1.symm.trans i2
  obtain ⟨vm₁, X₁, s1⟩ := X.invokeinterface F.x F.ow (F.ts _ hl) a1 a2 a3 (by rw [hr0]; exact b2) b3 ⟨hd.1, hd.2.1⟩ (a := Φ.E.ad key) (cell := cellB) (kcell := kB) (by rw [hT]; exact hcB) (fun z h => by rw [h] at hoB; cases hoB) hkB (by rw [hr0]; exact i3) (by rw [Launch.admits_selectMethod X.admits]; exact l3) g2 (by rw [d1, d2]; exact Cond.unhidden_spec hclB f4) (Cond.publicMethod_spec g1 g2 f3) g4 (g := F0 Φ.m pc ls (.int (iI j) :: .int (iI s) :: .int (iI i) :: .int (iI r) :: .ref (Φ.E.ad key) :: rest)) rfl (argsL := [.int (iI r), .int (iI i), .int (iI s), .int (iI j)]) (rest := rest) (by
    have h2 := hd.2.2
    rw [a4] at h2
    exact (Option.some.inj h2).symm) rfl (by rw [F.b]; exact hdg)
  have hW1 : World Φ.E γ (T.setVm vm₁).heap := by show World Φ.E γ T.heap; rw [hT]; exact hW
  rcases inCall (py := pI (b2i (r < s ∨ r = s ∧ i < j)) γ) (thr := fun _ => False) (kc := 0) (ks := 0) F X₁ hW1 (g := F0 Φ.m pc ls rest) rfl hlv.1 rfl hdg (bd_isAhead (l := Φ.l) (E := Φ.E) γ (a := Φ.E.ad key) h1 h2 h3 h4 (fun _ => False)) a1 q495 (by decide +kernel) (Nat.le_of_ble_eq_true rfl) hcat ⟨by omega, by omega⟩ ⟨by omega, by omega⟩ with ⟨v, γ', T', L, hp, hw, X', hL', hfr, stp⟩ | ⟨x, γ', T', L, hp, _⟩
  · obtain ⟨rfl, rfl⟩ := hp
    have e0 : (T.setVm vm₁).heap = H := hT
    unfold va_F at hfr
    rw [e0] at hfr
    have hS1 : va_S (fun q => Φ.E.bs ≤ q) Φ.s.heap T'.heap (locs ++ L) := ⟨Nat.le_trans hS.1 hfr.1, fun q h1 h2 => by rw [hfr.2 q (Nat.lt_of_lt_of_le h1 hS.1) h2]; exact hS.2.1 q h1 h2, fun q hq => by
      rcases List.mem_append.mp hq with h | h
      · exact hS.2.2 q h
      · exact hL' q h⟩
    obtain ⟨t2, z1, z2⟩ := kk T'.heap (locs ++ L) ls hw hS1 hlv T' rfl X'
    exact ⟨t2, s1 _ (fun acts => stp acts _ z1), z2⟩
  · exact hp.elim
end AHR
theorem ah_ok {l : Launch} {E : EE} (hN : NrOk E) : AhOk l E := by
  intro Φ cc own nL ret post mc ms γ k n pc lv rest index count a r i s j hl hE F ha h1 h2 h3 h4 hlk hcat hdg hR hf h
  subst hl; subst hE
  have h414 := F.ok.1.2.2
  rcases (show a = 0 ∨ a = 1 ∨ a = 2 ∨ a = 3 by omega) with rfl | rfl | rfl | rfl
  · exact w_ah F (C := RX3) ⟨F.ok.2.2 _ q491, F.ok.2.2 _ q490, F.ok.2.2 _ q494, F.ok.2.2 _ q497, F.ok.2.2 _ q480⟩ hN.1 hlk h1 h2 h3 h4 (by omega) rfl rfl rfl hcat hdg ⟨by omega, by omega⟩ hf h
  · exact w_ah F (C := RX4) ⟨F.ok.2.2 _ q491, F.ok.2.2 _ q490, F.ok.2.2 _ q494, F.ok.2.2 _ q498, F.ok.2.2 _ q484⟩ hN.2.1 hlk h1 h2 h3 h4 (by omega) rfl rfl rfl hcat hdg ⟨by omega, by omega⟩ hf h
  · exact w_ah F (C := RX5) ⟨F.ok.2.2 _ q491, F.ok.2.2 _ q490, F.ok.2.2 _ q494, F.ok.2.2 _ q496, F.ok.2.2 _ q470⟩ hN.2.2.1 hlk h1 h2 h3 h4 (by omega) rfl rfl rfl hcat hdg ⟨by omega, by omega⟩ hf h
  · exact w_ah F (C := RX6) ⟨F.ok.2.2 _ q491, F.ok.2.2 _ q490, F.ok.2.2 _ q494, F.ok.2.2 _ q492, F.ok.2.2 _ q455⟩ hN.2.2.2 hlk h1 h2 h3 h4 (by omega) rfl rfl rfl hcat hdg ⟨by omega, by omega⟩ hf h
