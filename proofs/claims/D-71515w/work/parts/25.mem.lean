/-! rows: fields and arrays -/
theorem World.next {E : EE} {γ γ' : GG} {s : State} {H H1 : Heap} {locs locs1 : List Loc} (hW : World E γ H) (hS : va_S (fun q => E.bs ≤ q) s.heap H locs) (hS1 : va_S (fun q => E.bs ≤ q) s.heap H1 locs1) (hb : E.bs ≤ s.heap.size) (hP : va_P E.D vwCl (wsOf E γ') H1) (hr : RgOk γ') : World E γ' H1 :=
  ⟨hP, hr, Nat.le_trans hb hS1.1, fun q hq => by
    rw [hS1.2.1 q (Nat.lt_of_lt_of_le hq hb) (Nat.not_le.mpr hq), ← hS.2.1 q (Nat.lt_of_lt_of_le hq hb) (Nat.not_le.mpr hq)]
    exact hW.2.2.2 q hq⟩
section ME
variable {Φ : PH} {cc : ByteArray} {own : String} {nL : Nat} {ret : Option FieldType} {post : Option Value → GG → Prop} {mc ms : Nat} {γ : GG} {k n pc : Nat} {lv lv' : List (Nat × Value)} {st : List Value}
theorem Fx.nest (F : Fx Φ cc own nL ret post mc ms) {a b c d h : String} {i : Nat} (hw : Cond.fieldLinkNest a i b c d h ∈ lw_tbl) : (Cond.fieldLinkNest a i b c d h).before Φ.args Φ.s = true := va_Nw.use rfl (va_Nw.warmF F.wm (F.ok.2.2 _ hw))
/-- a field's link: plain, or to a nest mate -/
abbrev lnk (own : String) (index : Nat) (r : String × String × String × Bool) : Prop := Cond.fieldLink own index r.1 r.2.1 r.2.2.1 ∈ lw_all ∨ Cond.fieldLinkNest own index r.1 r.2.1 r.2.2.1 "DeadlineTree" ∈ lw_tbl
theorem w_get (F : Fx Φ cc own nL ret post mc ms) {key : Nat} (hkey : key < Φ.E.nk) {ci : Nat} {fs : List Value} (hcell : cellOf Φ.E γ key = .inr (ci, fs)) {C : String} {T : u_T} {N : Nat} (hc : vwCl[ci]? = some (C, T, N)) (hin : ∀ w ∈ u_ws C T N, w ∈ lw_all) (f : Nat) (hf : f < N) {index : Nat} (hlink : lnk own index (T f)) {v : Value} (hv : fs[f]? = some v) (hdg : decode cc pc = .ok (.getfield index, 3)) (h : Wg Φ nL γ k n (pc + 3) lv (v :: st)) : Wg Φ nL γ k n pc lv (.ref (Φ.E.ad key) :: st) := by
  intro H locs ls hW hS hl
  have he := wsOf_at (E := Φ.E) (γ := γ) hkey
  rw [hcell] at he
  rcases hlink with q | q
  · exact va_get F.x F.b F.ts hin F.ow F.K hW.1 key he hc f hf (F.ts _ q) (fun _ h => h) hv hdg (h H locs ls hW hS hl)
  · exact va_getN F.x F.b F.ts hin F.ow F.K hW.1 key he hc f hf (F.nest q) (fun _ h => h) hv hdg (h H locs ls hW hS hl)
theorem w_getF (F : Fx Φ cc own nL ret post mc ms) {key ci o f i pos : Nat} {val : Int → Value} {fs : GG → List Value} (A : FldK Φ.E key ci o f i pos val fs) (hkey : key < Φ.E.nk) {C : String} {T : u_T} {N : Nat} (hc : vwCl[ci]? = some (C, T, N)) (hin : ∀ w ∈ u_ws C T N, w ∈ lw_all) (hf : pos < N) {index : Nat} (hlink : lnk own index (T pos)) (hdg : decode cc pc = .ok (.getfield index, 3)) (h : Wg Φ nL γ k n (pc + 3) lv (val (γ o f i) :: st)) : Wg Φ nL γ k n pc lv (.ref (Φ.E.ad key) :: st) :=
  w_get F hkey (A.1 γ) hc hin pos hf hlink (A.2.1 γ) hdg h
theorem w_putF (F : Fx Φ cc own nL ret post mc ms) {key ci o f i pos : Nat} {val : Int → Value} {fs : GG → List Value} (A : FldK Φ.E key ci o f i pos val fs) (hkey : key < Φ.E.nk) {C : String} {T : u_T} {N : Nat} (hc : vwCl[ci]? = some (C, T, N)) (hin : ∀ w ∈ u_ws C T N, w ∈ lw_all) (ty0 : Nat → FieldType) (hty : ∀ k, k < N → parseFieldDescriptor (T k).2.2.1 = some (ty0 k)) (hnm : ∀ a, a < N → ∀ b, b < N → a ≠ b → (T a).2.1 ≠ (T b).2.1) (hf : pos < N) {index : Nat} (hlink : lnk own index (T pos)) (hfin : (T pos).2.2.2 = false) {z : Int} (hn : narrow (ty0 pos) (val z) = val z) (hfit : fits (ty0 pos) (val z) = true) (hz : InR z) (hB : isB o f = true → -128 ≤ z ∧ z ≤ 127) (hPt : isP o f = true → -1 ≤ z ∧ z < 23) (hdg : decode cc pc = .ok (.putfield index, 3)) (h : Wg Φ nL (gu γ o f i z) k n (pc + 3) lv st) : Wg Φ nL γ k n pc lv (val z :: .ref (Φ.E.ad key) :: st) := by
  intro H locs ls hW hS hl
  have he := wsOf_at (E := Φ.E) (γ := γ) hkey
  rw [A.1 γ] at he
  have hset : (wsOf Φ.E γ).set key (Φ.E.ad key, .inr (ci, (fs γ).set pos (val z))) = wsOf Φ.E (gu γ o f i z) := wsOf_set (by rw [A.1, A.2.2.1]) (fun q hq => A.2.2.2 γ z q hq)
  have hlen : pos < (fs γ).length := (List.getElem?_eq_some_iff.mp (A.2.1 γ)).1
  rcases hlink with q | q
  · refine va_put F.x F.b F.ts hin ty0 hty hnm F.ow F.K hW.1 (F.D γ) hS key he hc pos hf (F.ts _ q) (fun _ h => h) hfin (hty pos hf) hn hfit hlen hdg (fun H1 locs1 hP1 _ hS1 => ?_)
    rw [hset] at hP1
    exact h H1 locs1 ls (hW.next hS hS1 F.bs hP1 (hW.2.1.up hz hB hPt)) hS1 hl
  · refine va_putN F.x F.b F.ts hin ty0 hty hnm F.ow F.K hW.1 (F.D γ) hS key he hc pos hf (F.nest q) (fun _ h => h) hfin (hty pos hf) hn hfit hlen hdg (fun H1 locs1 hP1 _ hS1 => ?_)
    rw [hset] at hP1
    exact h H1 locs1 ls (hW.next hS hS1 F.bs hP1 (hW.2.1.up hz hB hPt)) hS1 hl
theorem w_iald (F : Fx Φ cc own nL ret post mc ms) {key o f N : Nat} (A : ArrK Φ.E 1 key o f N) (hkey : key < Φ.E.nk) (hN : N < 2 ^ 31) {z : Int} (h0 : 0 ≤ z) (h1 : z < N) (hdg : decode cc pc = .ok (.iaload, 1)) (h : Wg Φ nL γ k n (pc + 1) lv (.int (iI (γ o f z.toNat)) :: st)) : Wg Φ nL γ k n pc lv (.int (iI z) :: .ref (Φ.E.ad key) :: st) := by
  intro H locs ls hW hS hl
  have he := wsOf_at (E := Φ.E) (γ := γ) hkey
  rw [A.1 γ] at he
  refine va_iald F.x F.b F.K hW.1 key 1 he rfl (iI_in h0 h1 hN) hdg ?_
  rw [iI_clamp ⟨by omega, by omega⟩ h0]
  exact h H locs ls hW hS hl
theorem w_bald (F : Fx Φ cc own nL ret post mc ms) {key o f N : Nat} (A : ArrK Φ.E 0 key o f N) (hkey : key < Φ.E.nk) (hN : N < 2 ^ 31) {z : Int} (h0 : 0 ≤ z) (h1 : z < N) (hdg : decode cc pc = .ok (.baload, 1)) (h : Wg Φ nL γ k n (pc + 1) lv (.int (iI (γ o f z.toNat)) :: st)) : Wg Φ nL γ k n pc lv (.int (iI z) :: .ref (Φ.E.ad key) :: st) := by
  intro H locs ls hW hS hl
  have he := wsOf_at (E := Φ.E) (γ := γ) hkey
  rw [A.1 γ] at he
  refine va_bald F.x F.b F.K hW.1 key 0 he rfl (iI_in h0 h1 hN) hdg ?_
  rw [iI_clamp ⟨by omega, by omega⟩ h0]
  exact h H locs ls hW hS hl
theorem w_ialdN (F : Fx Φ cc own nL ret post mc ms) {key o f N : Nat} (A : ArrK Φ.E 1 key o f N) (hkey : key < Φ.E.nk) (hN : N < 2 ^ 31) {j : Nat} (h1 : j < N) (hdg : decode cc pc = .ok (.iaload, 1)) (h : Wg Φ nL γ k n (pc + 1) lv (.int (iI (γ o f j)) :: st)) : Wg Φ nL γ k n pc lv (.int (iI (j : Int)) :: .ref (Φ.E.ad key) :: st) := w_iald F A hkey hN (by omega) (by omega) hdg h
theorem w_baldN (F : Fx Φ cc own nL ret post mc ms) {key o f N : Nat} (A : ArrK Φ.E 0 key o f N) (hkey : key < Φ.E.nk) (hN : N < 2 ^ 31) {j : Nat} (h1 : j < N) (hdg : decode cc pc = .ok (.baload, 1)) (h : Wg Φ nL γ k n (pc + 1) lv (.int (iI (γ o f j)) :: st)) : Wg Φ nL γ k n pc lv (.int (iI (j : Int)) :: .ref (Φ.E.ad key) :: st) := w_bald F A hkey hN (by omega) (by omega) hdg h
theorem ints_up {γ : GG} {o f i : Nat} {x : Int} : upd (fun j => iI (γ o f j)) i (iI x) = fun j => iI (gu γ o f i x o f j) := by
  funext j
  by_cases h : j = i
  · subst h
    simp [upd, gu]
  · simp [upd, gu, h]
theorem w_iast (F : Fx Φ cc own nL ret post mc ms) {key o f N : Nat} (A : ArrK Φ.E 1 key o f N) (hkey : key < Φ.E.nk) (hN : N < 2 ^ 31) (hB : isB o f = false) (hPt : isP o f = false) {z x : Int} (hx : InR x) (h0 : 0 ≤ z) (h1 : z < N) (hdg : decode cc pc = .ok (.iastore, 1)) (h : Wg Φ nL (gu γ o f z.toNat x) k n (pc + 1) lv st) : Wg Φ nL γ k n pc lv (.int (iI x) :: .int (iI z) :: .ref (Φ.E.ad key) :: st) := by
  intro H locs ls hW hS hl
  have he := wsOf_at (E := Φ.E) (γ := γ) hkey
  rw [A.1 γ] at he
  refine va_iast F.x F.b F.K hW.1 (F.D γ) hS key 1 he rfl (iI_in h0 h1 hN) hdg (fun H1 locs1 hP1 _ hS1 => ?_)
  rw [iI_clamp ⟨by omega, by omega⟩ h0, ints_up, wsOf_set (γ' := gu γ o f z.toNat x) (A.1 _) (fun q hq => A.2 γ _ _ q hq)] at hP1
  exact h H1 locs1 ls (hW.next hS hS1 F.bs hP1 (hW.2.1.up hx (fun q => by rw [hB] at q; cases q) (fun q => by rw [hPt] at q; cases q))) hS1 hl
theorem nar_byte {x : Int} (h1 : -128 ≤ x) (h2 : x ≤ 127) : vp_nar .byte (iI x) = iI x := by
  rw [vp_nar_byte]
  apply Int32.toInt_inj.mp
  have h3 : (iI x).toInt8.toInt = x := by
    rw [Int32.toInt_toInt8, iI_toInt ⟨by omega, by omega⟩]
    exact Int.bmod_eq_of_le (by omega) (by omega)
  rw [Int8.toInt_toInt32, h3, iI_toInt ⟨by omega, by omega⟩]
theorem w_bast (F : Fx Φ cc own nL ret post mc ms) {key o f N : Nat} (A : ArrK Φ.E 0 key o f N) (hkey : key < Φ.E.nk) (hN : N < 2 ^ 31) (hPt : isP o f = false) {z x : Int} (hx : -128 ≤ x ∧ x ≤ 127) (h0 : 0 ≤ z) (h1 : z < N) (hdg : decode cc pc = .ok (.bastore, 1)) (h : Wg Φ nL (gu γ o f z.toNat x) k n (pc + 1) lv st) : Wg Φ nL γ k n pc lv (.int (iI x) :: .int (iI z) :: .ref (Φ.E.ad key) :: st) := by
  intro H locs ls hW hS hl
  have he := wsOf_at (E := Φ.E) (γ := γ) hkey
  rw [A.1 γ] at he
  refine va_bast F.x F.b F.K hW.1 (F.D γ) hS key 0 he rfl (iI_in h0 h1 hN) hdg (fun H1 locs1 hP1 _ hS1 => ?_)
  rw [iI_clamp ⟨by omega, by omega⟩ h0, nar_byte hx.1 hx.2, ints_up, wsOf_set (γ' := gu γ o f z.toNat x) (A.1 _) (fun q hq => A.2 γ _ _ q hq)] at hP1
  exact h H1 locs1 ls (hW.next hS hS1 F.bs hP1 (hW.2.1.up ⟨by omega, by omega⟩ (fun _ => hx) (fun q => by rw [hPt] at q; cases q))) hS1 hl
theorem w_iastN (F : Fx Φ cc own nL ret post mc ms) {key o f N : Nat} (A : ArrK Φ.E 1 key o f N) (hkey : key < Φ.E.nk) (hN : N < 2 ^ 31) (hB : isB o f = false) (hPt : isP o f = false) {j : Nat} {x : Int} (hx : InR x) (h1 : j < N) (hdg : decode cc pc = .ok (.iastore, 1)) (h : Wg Φ nL (gu γ o f j x) k n (pc + 1) lv st) : Wg Φ nL γ k n pc lv (.int (iI x) :: .int (iI (j : Int)) :: .ref (Φ.E.ad key) :: st) := w_iast F A hkey hN hB hPt hx (by omega) (by omega) hdg h
theorem w_bastN (F : Fx Φ cc own nL ret post mc ms) {key o f N : Nat} (A : ArrK Φ.E 0 key o f N) (hkey : key < Φ.E.nk) (hN : N < 2 ^ 31) (hPt : isP o f = false) {j : Nat} {x : Int} (hx : -128 ≤ x ∧ x ≤ 127) (h1 : j < N) (hdg : decode cc pc = .ok (.bastore, 1)) (h : Wg Φ nL (gu γ o f j x) k n (pc + 1) lv st) : Wg Φ nL γ k n pc lv (.int (iI x) :: .int (iI (j : Int)) :: .ref (Φ.E.ad key) :: st) := w_bast F A hkey hN hPt hx (by omega) (by omega) hdg h
/-- a reference out of an array: t its type's place, R its component -/
theorem w_aald (F : Fx Φ cc own nL ret post mc ms) {key t N : Nat} {R : String} {g : Nat → Option Nat} (hcell : cellOf Φ.E γ key = .inl (Φ.E.cA t, N, refs g)) (hkey : key < Φ.E.nk) (ht : (tysOf Φ.E.cA)[t]? = some (Φ.E.cA t, .object R)) (hN : N < 2 ^ 31) {z : Int} (h0 : 0 ≤ z) (h1 : z < N) (hdg : decode cc pc = .ok (.aaload, 1)) (h : Wg Φ nL γ k n (pc + 1) lv (va_rf (g z.toNat) :: st)) : Wg Φ nL γ k n pc lv (.int (iI z) :: .ref (Φ.E.ad key) :: st) := by
  intro H locs ls hW hS hl
  have he := wsOf_at (E := Φ.E) (γ := γ) hkey
  rw [hcell] at he
  refine va_aldq F.x F.b F.K hW.1 key t he ht (iI_in h0 h1 hN) hdg ?_
  rw [iI_clamp ⟨by omega, by omega⟩ h0]
  exact h H locs ls hW hS hl
end ME
