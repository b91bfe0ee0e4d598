/-! rows of the abstract walk: locals, constants, arithmetic, branches -/
def lget : List (Nat × Value) → Nat → Option Value
  | [], _ => none
  | (a, v) :: r, i => bif Nat.beq a i then some v else lget r i
theorem lget_mem : ∀ {lv : List (Nat × Value)} {i : Nat} {v : Value}, lget lv i = some v → (i, v) ∈ lv
  | [], i, v, h => by cases h
  | (a, b) :: r, i, v, h => by
    unfold lget at h
    cases hb : Nat.beq a i with
    | true =>
      rw [hb] at h
      have e : a = i := Nat.eq_of_beq_eq_true hb
      cases h
      subst e
      exact List.mem_cons_self
    | false =>
      rw [hb] at h
      exact List.mem_cons_of_mem _ (lget_mem h)
def lpre : List (Nat × Value) → Nat → List (Nat × Value)
  | [], _ => []
  | q :: r, i => bif Nat.blt q.1 i then q :: lpre r i else lpre r i
def lpost : List (Nat × Value) → Nat → List (Nat × Value)
  | [], _ => []
  | q :: r, i => bif Nat.blt i q.1 then q :: lpost r i else lpost r i
def lput (lv : List (Nat × Value)) (i : Nat) (v : Value) : List (Nat × Value) := lpre lv i ++ (i, v) :: lpost lv i
theorem lpre_mem : ∀ {lv : List (Nat × Value)} {i : Nat} {q : Nat × Value}, q ∈ lpre lv i → q ∈ lv ∧ q.1 < i
  | [], i, q, h => by cases h
  | a :: r, i, q, h => by
    unfold lpre at h
    cases hb : Nat.blt a.1 i with
    | true =>
      rw [hb] at h
      rcases List.mem_cons.mp h with e | e
      · subst e
        exact ⟨List.mem_cons_self, by simpa [Nat.blt_eq] using hb⟩
      · exact ⟨List.mem_cons_of_mem _ (lpre_mem e).1, (lpre_mem e).2⟩
    | false =>
      rw [hb] at h
      exact ⟨List.mem_cons_of_mem _ (lpre_mem h).1, (lpre_mem h).2⟩
theorem lpost_mem : ∀ {lv : List (Nat × Value)} {i : Nat} {q : Nat × Value}, q ∈ lpost lv i → q ∈ lv ∧ i < q.1
  | [], i, q, h => by cases h
  | a :: r, i, q, h => by
    unfold lpost at h
    cases hb : Nat.blt i a.1 with
    | true =>
      rw [hb] at h
      rcases List.mem_cons.mp h with e | e
      · subst e
        exact ⟨List.mem_cons_self, by simpa [Nat.blt_eq] using hb⟩
      · exact ⟨List.mem_cons_of_mem _ (lpost_mem e).1, (lpost_mem e).2⟩
    | false =>
      rw [hb] at h
      exact ⟨List.mem_cons_of_mem _ (lpost_mem h).1, (lpost_mem h).2⟩
/-- no long stands just ahead of the place -/
def lok : List (Nat × Value) → Nat → Bool
  | [], _ => true
  | q :: r, i => bif Nat.beq (q.1 + 1) i then Nat.beq q.2.category 1 && lok r i else lok r i
theorem lok_mem : ∀ {lv : List (Nat × Value)} {i : Nat} {q : Nat × Value}, lok lv i = true → q ∈ lv → q.1 + 1 = i → q.2.category = 1
  | [], i, q, h, hq, _ => by cases hq
  | a :: r, i, q, h, hq, e => by
    unfold lok at h
    rcases List.mem_cons.mp hq with hh | hh
    · subst hh
      rw [show Nat.beq (q.1 + 1) i = true from by rw [e]; exact Nat.beq_refl i] at h
      simp at h
      exact h.1
    · cases hb : Nat.beq (a.1 + 1) i with
      | true =>
        rw [hb] at h
        simp at h
        exact lok_mem h.2 hh e
      | false =>
        rw [hb] at h
        exact lok_mem h hh e
theorem lv_mono {ls : Array Slot} {n : Nat} {l l' : List (Nat × Value)} (h : lv_has ls n l) (hs : ∀ q ∈ l', q ∈ l) : lv_has ls n l' := ⟨h.1, h.2.1, fun q hq => h.2.2 q (hs q hq)⟩
theorem lv_lget {ls : Array Slot} {n : Nat} {l : List (Nat × Value)} (h : lv_has ls n l) {i : Nat} {v : Value} (e : lget l i = some v) : ls[i]? = some (.val v) := h.2.2 (i, v) (lget_mem e)
theorem lput_sub {lv : List (Nat × Value)} {i : Nat} {v : Value} (ho : lok lv i = true) : ∀ q ∈ lput lv i v, q ∈ (i, v) :: lv.filter (fun q => !(q.1 == i) && !(q.1 + 1 == i && q.2.category == 2)) := by
  intro q hq
  have key : q ∈ lv → q.1 ≠ i → q ∈ (i, v) :: lv.filter (fun q => !(q.1 == i) && !(q.1 + 1 == i && q.2.category == 2)) := by
    intro h1 h2
    refine List.mem_cons_of_mem _ (List.mem_filter.mpr ⟨h1, ?_⟩)
    have h3 := fun e => lok_mem ho h1 e
    simp only [Bool.and_eq_true, Bool.not_eq_true', beq_eq_false_iff_ne, ne_eq, Bool.and_eq_false_iff]
    refine ⟨h2, ?_⟩
    by_cases e : q.1 + 1 = i
    · right
      rw [h3 e]
      decide
    · left
      exact e
  rcases List.mem_append.mp hq with h | h
  · exact key (lpre_mem h).1 (Nat.ne_of_lt (lpre_mem h).2)
  · rcases List.mem_cons.mp h with e | e
    · subst e
      exact List.mem_cons_self
    · exact key (lpost_mem e).1 (Nat.ne_of_gt (lpost_mem e).2)
/-- a long put in: the place behind it goes too -/
def lputL (lv : List (Nat × Value)) (i : Nat) (v : Value) : List (Nat × Value) := lpre lv i ++ (i, v) :: lpost lv (i + 1)
theorem lputL_sub {lv : List (Nat × Value)} {i : Nat} {v : Value} (ho : lok lv i = true) : ∀ q ∈ lputL lv i v, q ∈ (i, v) :: lv.filter (fun q => !(q.1 == i) && (!(q.1 == i + 1) && !(q.1 + 1 == i && q.2.category == 2))) := by
  intro q hq
  have key : q ∈ lv → q.1 ≠ i → q.1 ≠ i + 1 → q ∈ (i, v) :: lv.filter (fun q => !(q.1 == i) && (!(q.1 == i + 1) && !(q.1 + 1 == i && q.2.category == 2))) := by
    intro h1 h2 h4
    refine List.mem_cons_of_mem _ (List.mem_filter.mpr ⟨h1, ?_⟩)
    have h3 := fun e => lok_mem ho h1 e
    simp only [Bool.and_eq_true, Bool.not_eq_true', beq_eq_false_iff_ne, ne_eq, Bool.and_eq_false_iff]
    refine ⟨h2, h4, ?_⟩
    by_cases e : q.1 + 1 = i
    · right
      rw [h3 e]
      decide
    · left
      exact e
  rcases List.mem_append.mp hq with h | h
  · exact key (lpre_mem h).1 (Nat.ne_of_lt (lpre_mem h).2) (by have := (lpre_mem h).2; omega)
  · rcases List.mem_cons.mp h with e | e
    · subst e
      exact List.mem_cons_self
    · exact key (lpost_mem e).1 (by have := (lpost_mem e).2; omega) (by have := (lpost_mem e).2; omega)
section RO
variable {Φ : PH} {cc : ByteArray} {own : String} {nL : Nat} {ret : Option FieldType} {post : Option Value → GG → Prop} {mc ms : Nat} {γ : GG} {k n pc : Nat} {lv lv' : List (Nat × Value)} {st : List Value}
theorem w_rng (h : RgOk γ → Wg Φ nL γ k n pc lv st) : Wg Φ nL γ k n pc lv st := fun H locs ls hW hS hl => h hW.2.1 H locs ls hW hS hl
theorem w_loc (hs : ∀ q ∈ lv', q ∈ lv) (h : Wg Φ nL γ k n pc lv' st) : Wg Φ nL γ k n pc lv st := fun H locs ls hW hS hl => h H locs ls hW hS (lv_mono hl hs)
theorem w_widen {k' n' : Nat} (hk : k ≤ k') (hn : n ≤ n') (h : Wg Φ nL γ k' n' pc lv st) : Wg Φ nL γ k n pc lv st := fun H locs ls hW hS hl => W.widen hk hn (h H locs ls hW hS hl)
theorem w_eq {γ' : GG} {k' n' pc' : Nat} {st' : List Value} (h1 : γ = γ') (h2 : pc = pc') (h3 : lv = lv') (h4 : st = st') (h : Wg Φ nL γ' k n pc' lv' st') : Wg Φ nL γ k n pc lv st := by subst h1; subst h2; subst h3; subst h4; exact h
theorem w_top {z z' : Int} (e : z = z') (h : Wg Φ nL γ k n pc lv (.int (iI z') :: st)) : Wg Φ nL γ k n pc lv (.int (iI z) :: st) := by subst e; exact h
theorem w_iconst (F : Fx Φ cc own nL ret post mc ms) {z : Int} (hdg : decode cc pc = .ok (.iconst z, 1)) (h : Wg Φ nL γ k n (pc + 1) lv (.int (iI z) :: st)) : Wg Φ nL γ k n pc lv st := fun H locs ls hW hS hl => lv_iconst F.x F.b hdg rfl (h H locs ls hW hS hl)
theorem w_bipush (F : Fx Φ cc own nL ret post mc ms) {z : Int} (hdg : decode cc pc = .ok (.bipush z, 2)) (hz : (Int8.ofInt z).toInt32 = iI z) (h : Wg Φ nL γ k n (pc + 2) lv (.int (iI z) :: st)) : Wg Φ nL γ k n pc lv st := fun H locs ls hW hS hl => lv_bipush F.x F.b hdg hz (h H locs ls hW hS hl)
theorem w_sipush (F : Fx Φ cc own nL ret post mc ms) {z : Int} (hdg : decode cc pc = .ok (.sipush z, 3)) (hz : (Int16.ofInt z).toInt32 = iI z) (h : Wg Φ nL γ k n (pc + 3) lv (.int (iI z) :: st)) : Wg Φ nL γ k n pc lv st := fun H locs ls hW hS hl => lv_sipush F.x F.b hdg hz (h H locs ls hW hS hl)
theorem w_iload_n (F : Fx Φ cc own nL ret post mc ms) {q : Fin 4} {x : Int32} (hdg : decode cc pc = .ok (.iload_n q, 1)) (hl : lget lv q.val = some (.int x)) (h : Wg Φ nL γ k n (pc + 1) lv (.int x :: st)) : Wg Φ nL γ k n pc lv st := fun H locs ls hW hS hl' => lv_iload_n F.x F.b hdg rfl (lv_lget hl' hl) (h H locs ls hW hS hl')
theorem w_iload (F : Fx Φ cc own nL ret post mc ms) {i : Nat} {x : Int32} (hdg : decode cc pc = .ok (.iload i, 2)) (hl : lget lv i = some (.int x)) (h : Wg Φ nL γ k n (pc + 2) lv (.int x :: st)) : Wg Φ nL γ k n pc lv st := fun H locs ls hW hS hl' => lv_iload F.x F.b hdg (lv_lget hl' hl) (h H locs ls hW hS hl')
theorem w_lload_n (F : Fx Φ cc own nL ret post mc ms) {q : Fin 4} {x : Int64} (hdg : decode cc pc = .ok (.lload_n q, 1)) (hl : lget lv q.val = some (.long x)) (h : Wg Φ nL γ k n (pc + 1) lv (.long x :: st)) : Wg Φ nL γ k n pc lv st := fun H locs ls hW hS hl' => lv_lload_n F.x F.b hdg rfl (lv_lget hl' hl) (h H locs ls hW hS hl')
theorem w_lload (F : Fx Φ cc own nL ret post mc ms) {i : Nat} {x : Int64} (hdg : decode cc pc = .ok (.lload i, 2)) (hl : lget lv i = some (.long x)) (h : Wg Φ nL γ k n (pc + 2) lv (.long x :: st)) : Wg Φ nL γ k n pc lv st := fun H locs ls hW hS hl' => lv_lload F.x F.b hdg (lv_lget hl' hl) (h H locs ls hW hS hl')
theorem w_aload_n (F : Fx Φ cc own nL ret post mc ms) {q : Fin 4} {v : Value} (hdg : decode cc pc = .ok (.aload_n q, 1)) (hl : lget lv q.val = some v) (hv : v.isRef = true) (h : Wg Φ nL γ k n (pc + 1) lv (v :: st)) : Wg Φ nL γ k n pc lv st := by
  intro H locs ls hW hS hl'
  cases v with
  | ref a => exact lv_aload_n F.x F.b hdg rfl (lv_lget hl' hl) (h H locs ls hW hS hl')
  | null => exact lv_aload_nN F.x F.b hdg rfl (lv_lget hl' hl) (h H locs ls hW hS hl')
  | _ => cases hv
theorem w_aload (F : Fx Φ cc own nL ret post mc ms) {i : Nat} {v : Value} (hdg : decode cc pc = .ok (.aload i, 2)) (hl : lget lv i = some v) (hv : v.isRef = true) (h : Wg Φ nL γ k n (pc + 2) lv (v :: st)) : Wg Φ nL γ k n pc lv st := by
  intro H locs ls hW hS hl'
  cases v with
  | ref a => exact lv_aload F.x F.b hdg (lv_lget hl' hl) (h H locs ls hW hS hl')
  | null => exact lv_aloadN F.x F.b hdg (lv_lget hl' hl) (h H locs ls hW hS hl')
  | _ => cases hv
theorem w_istore_n (F : Fx Φ cc own nL ret post mc ms) {q : Fin 4} {x : Int32} (hdg : decode cc pc = .ok (.istore_n q, 1)) (hi : q.val < nL) (ho : lok lv q.val = true) (hl : lput lv q.val (.int x) = lv') (h : Wg Φ nL γ k n (pc + 1) lv' st) : Wg Φ nL γ k n pc lv (.int x :: st) := fun H locs ls hW hS hl' => lv_istore_n F.x F.b hdg rfl hl' hi rfl (fun ls2 hl2 => h H locs ls2 hW hS (lv_mono hl2 (hl ▸ lput_sub ho)))
theorem w_istore (F : Fx Φ cc own nL ret post mc ms) {i : Nat} {x : Int32} (hdg : decode cc pc = .ok (.istore i, 2)) (hi : i < nL) (ho : lok lv i = true) (hl : lput lv i (.int x) = lv') (h : Wg Φ nL γ k n (pc + 2) lv' st) : Wg Φ nL γ k n pc lv (.int x :: st) := fun H locs ls hW hS hl' => lv_istore F.x F.b hdg hl' hi rfl (fun ls2 hl2 => h H locs ls2 hW hS (lv_mono hl2 (hl ▸ lput_sub ho)))
theorem w_lstore (F : Fx Φ cc own nL ret post mc ms) {i : Nat} {x : Int64} (hdg : decode cc pc = .ok (.lstore i, 2)) (hi : i + 1 < nL) (ho : lok lv i = true) (hl : lputL lv i (.long x) = lv') (h : Wg Φ nL γ k n (pc + 2) lv' st) : Wg Φ nL γ k n pc lv (.long x :: st) := fun H locs ls hW hS hl' => lv_lstore F.x F.b hdg hl' hi rfl (fun ls2 hl2 => h H locs ls2 hW hS (lv_mono hl2 (hl ▸ lputL_sub ho)))
theorem w_astore_n (F : Fx Φ cc own nL ret post mc ms) {q : Fin 4} {v : Value} (hdg : decode cc pc = .ok (.astore_n q, 1)) (hi : q.val < nL) (ho : lok lv q.val = true) (hl : lput lv q.val v = lv') (hv : v.isRef = true) (h : Wg Φ nL γ k n (pc + 1) lv' st) : Wg Φ nL γ k n pc lv (v :: st) := by
  intro H locs ls hW hS hl'
  cases v with
  | ref a => exact lv_astore_n F.x F.b hdg rfl hl' hi rfl (fun ls2 hl2 => h H locs ls2 hW hS (lv_mono hl2 (hl ▸ lput_sub ho)))
  | null => exact lv_astore_nN F.x F.b hdg rfl hl' hi rfl (fun ls2 hl2 => h H locs ls2 hW hS (lv_mono hl2 (hl ▸ lput_sub ho)))
  | _ => cases hv
theorem w_astore (F : Fx Φ cc own nL ret post mc ms) {i : Nat} {v : Value} (hdg : decode cc pc = .ok (.astore i, 2)) (hi : i < nL) (ho : lok lv i = true) (hl : lput lv i v = lv') (hv : v.isRef = true) (h : Wg Φ nL γ k n (pc + 2) lv' st) : Wg Φ nL γ k n pc lv (v :: st) := by
  intro H locs ls hW hS hl'
  cases v with
  | ref a => exact lv_astore F.x F.b hdg hl' hi rfl (fun ls2 hl2 => h H locs ls2 hW hS (lv_mono hl2 (hl ▸ lput_sub ho)))
  | null => exact lv_astoreN F.x F.b hdg hl' hi rfl (fun ls2 hl2 => h H locs ls2 hW hS (lv_mono hl2 (hl ▸ lput_sub ho)))
  | _ => cases hv
theorem lv_get?_of {lv : List (Nat × Value)} {q : Nat × Value} (h : q ∈ lv) : ∃ j : Nat, lv[j]? = some q := List.getElem?_of_mem h
theorem w_iinc (F : Fx Φ cc own nL ret post mc ms) {i : Nat} {d z : Int} (hdg : decode cc pc = .ok (.iinc i d, 3)) (hg : lget lv i = some (.int (iI z))) (hi : i < nL) (ho : lok lv i = true) (hl : lput lv i (.int (iI (z + d))) = lv') (h : Wg Φ nL γ k n (pc + 3) lv' st) : Wg Φ nL γ k n pc lv st := by
  intro H locs ls hW hS hl'
  obtain ⟨j, hj⟩ := lv_get?_of (lget_mem hg)
  exact lv_iinc F.x F.b hdg hl' hj (iI_add z d) hi rfl (fun ls2 hl2 => h H locs ls2 hW hS (lv_mono hl2 (hl ▸ lput_sub ho)))
theorem w_iadd (F : Fx Φ cc own nL ret post mc ms) {a b : Int} (hdg : decode cc pc = .ok (.iadd, 1)) (h : Wg Φ nL γ k n (pc + 1) lv (.int (iI (a + b)) :: st)) : Wg Φ nL γ k n pc lv (.int (iI b) :: .int (iI a) :: st) := fun H locs ls hW hS hl => lv_iadd F.x F.b hdg (iI_add a b ▸ h H locs ls hW hS hl)
theorem w_isub (F : Fx Φ cc own nL ret post mc ms) {a b : Int} (hdg : decode cc pc = .ok (.isub, 1)) (h : Wg Φ nL γ k n (pc + 1) lv (.int (iI (a - b)) :: st)) : Wg Φ nL γ k n pc lv (.int (iI b) :: .int (iI a) :: st) := fun H locs ls hW hS hl => lv_isub F.x F.b hdg (iI_sub a b ▸ h H locs ls hW hS hl)
theorem w_imul (F : Fx Φ cc own nL ret post mc ms) {a b : Int} (hdg : decode cc pc = .ok (.imul, 1)) (h : Wg Φ nL γ k n (pc + 1) lv (.int (iI (a * b)) :: st)) : Wg Φ nL γ k n pc lv (.int (iI b) :: .int (iI a) :: st) := fun H locs ls hW hS hl => lv_imul F.x F.b hdg (iI_mul a b ▸ h H locs ls hW hS hl)
theorem w_dup (F : Fx Φ cc own nL ret post mc ms) {v : Value} (hdg : decode cc pc = .ok (.dup, 1)) (hc : v.category = 1) (h : Wg Φ nL γ k n (pc + 1) lv (v :: v :: st)) : Wg Φ nL γ k n pc lv (v :: st) := fun H locs ls hW hS hl => lv_dup F.x F.b hdg hc (h H locs ls hW hS hl)
theorem w_pop (F : Fx Φ cc own nL ret post mc ms) {v : Value} (hdg : decode cc pc = .ok (.pop, 1)) (hc : v.category = 1) (h : Wg Φ nL γ k n (pc + 1) lv st) : Wg Φ nL γ k n pc lv (v :: st) := fun H locs ls hW hS hl => lv_pop F.x F.b hdg hc (h H locs ls hW hS hl)
theorem w_goto (F : Fx Φ cc own nL ret post mc ms) {off : Int} {tgt : Nat} (hdg : decode cc pc = .ok (.goto off, 3)) (ht : (pc : Int) + off = (tgt : Int)) (h : Wg Φ nL γ k n tgt lv st) : Wg Φ nL γ k n pc lv st := fun H locs ls hW hS hl => lv_goto F.x F.b hdg ht (h H locs ls hW hS hl)
theorem w_null (F : Fx Φ cc own nL ret post mc ms) (hdg : decode cc pc = .ok (.aconst_null, 1)) (h : Wg Φ nL γ k n (pc + 1) lv (.null :: st)) : Wg Φ nL γ k n pc lv st := fun H locs ls hW hS hl => lv_null F.x F.b hdg (h H locs ls hW hS hl)
end RO
