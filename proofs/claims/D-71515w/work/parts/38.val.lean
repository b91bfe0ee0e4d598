/-! the value: jobs as bits, their table, the tree; how it changes -/
def keyT (T : Nat → Nat → Int) (j : Nat) : Nat := (16 * T 2 j + j).toNat
def insT (κ : Nat → Nat) (j : Nat) : TT → TT
  | .leaf q => if κ j ≤ κ q then .branch (κ j) (.leaf j) (.leaf q) else .branch (κ q) (.leaf q) (.leaf j)
  | .branch s a b => if κ j ≤ s then .branch s (insT κ j a) b else .branch s a (insT κ j b)
def levT (κ : Nat → Nat) (k : Nat) : TT → TT × Nat
  | .leaf q => (.leaf q, 0)
  | .branch s a b => if leansB (.branch s a b) = true then (bld κ (tl a ++ tl b), 1) else if k ≤ s then (.branch s (levT κ k a).1 b, (levT κ k a).2) else (.branch s a (levT κ k b).1, (levT κ k b).2)
def upT (T : Nat → Nat → Int) (j : Nat) (k s d l : Int) : Nat → Nat → Int := fun f i => if i = j then (if f = 1 then k else if f = 2 then s else if f = 3 then d else if f = 4 then l else T f i) else T f i
theorem bld_cong {κ κ' : Nat → Nat} : ∀ (n : Nat) (L : List Nat), L.length = n → 0 < n → (∀ j ∈ L, κ j = κ' j) → bld κ L = bld κ' L := by
  intro n
  induction n using Nat.strongRecOn with
  | _ n ih =>
    intro L h h0 hj
    by_cases h1 : L.length = 1
    · obtain ⟨j, rfl⟩ := List.length_eq_one_iff.mp h1
      rw [bld_1, bld_1]
    · rw [bld_2 κ (by omega), bld_2 κ' (by omega)]
      rw [ih ((L.length + 1) / 2) (by omega) _ (by simp; omega) (by omega) (fun j q => hj j (List.mem_of_mem_take q)), ih (L.length - (L.length + 1) / 2) (by omega) _ (by simp) (by omega) (fun j q => hj j (List.mem_of_mem_drop q))]
      have : (L.getD ((L.length + 1) / 2 - 1) 0) ∈ L := by
        rw [List.getD_eq_getElem?_getD, List.getElem?_eq_getElem (by omega)]
        simp
      rw [hj _ this]
theorem bld_cg {κ κ' : Nat → Nat} {L : List Nat} (h0 : 0 < L.length) (hj : ∀ j ∈ L, κ j = κ' j) : bld κ L = bld κ' L := bld_cong L.length L rfl h0 hj
/-- the frames follow the key k down -/
def Pth (k : Nat) (ctx : List FrT) : Prop := ∀ f ∈ ctx, (f.2.2.1 = true ↔ k ≤ f.2.1)
theorem lev_fill {κ : Nat → Nat} {k : Nat} {f : FrT} (hf : f.2.2.1 = true ↔ k ≤ f.2.1) (u : TT) : levT κ k (fill f u) = if leansB (fill f u) = true then (bld κ (tl (fill f u)), 1) else (fill f (levT κ k u).1, (levT κ k u).2) := by
  unfold fill
  by_cases h : f.2.2.1 = true
  · rw [if_pos h, if_pos h]
    show (if _ then _ else _) = _
    rw [if_pos (hf.mp h)]
    rfl
  · rw [if_neg h, if_neg h]
    show (if _ then _ else _) = _
    rw [if_neg (fun q => h (hf.mpr q))]
    rfl
theorem lev_plug {κ : Nat → Nat} {k : Nat} : ∀ (ctx : List FrT) (u : TT), Pth k ctx → levT κ k (plug ctx u) = match sett ctx u with
    | some q => (plug q.2.2 (bld κ (tl q.1)), 1)
    | none => (plug ctx (levT κ k u).1, (levT κ k u).2)
  | [], u, _ => rfl
  | f :: r, u, h => by
    have h1 := lev_plug (κ := κ) r (fill f u) (fun q hq => h q (List.mem_cons_of_mem _ hq))
    show levT κ k (plug r (fill f u)) = match (match sett r (fill f u) with | some q => some q | none => if leansB (fill f u) = true then some (fill f u, f.1, r) else none) with
      | some q => (plug q.2.2 (bld κ (tl q.1)), 1)
      | none => (plug r (fill f (levT κ k u).1), (levT κ k u).2)
    rw [h1]
    cases sett r (fill f u) with
    | some q => rfl
    | none =>
      dsimp only
      rw [lev_fill (h f List.mem_cons_self)]
      by_cases q : leansB (fill f u) = true
      · rw [if_pos q, if_pos q]
      · rw [if_neg q, if_neg q]
theorem ins_fill {κ : Nat → Nat} {j : Nat} {f : FrT} (hf : f.2.2.1 = true ↔ κ j ≤ f.2.1) (u : TT) : insT κ j (fill f u) = fill f (insT κ j u) := by
  unfold fill
  by_cases h : f.2.2.1 = true
  · rw [if_pos h, if_pos h]
    show (if _ then _ else _) = _
    rw [if_pos (hf.mp h)]
  · rw [if_neg h, if_neg h]
    show (if _ then _ else _) = _
    rw [if_neg (fun q => h (hf.mpr q))]
theorem ins_plug {κ : Nat → Nat} {j : Nat} : ∀ (ctx : List FrT) (u : TT), Pth (κ j) ctx → insT κ j (plug ctx u) = plug ctx (insT κ j u)
  | [], _, _ => rfl
  | f :: r, u, h => by
    show insT κ j (plug r (fill f u)) = plug r (fill f (insT κ j u))
    rw [ins_plug r _ (fun q hq => h q (List.mem_cons_of_mem _ hq)), ins_fill (h f List.mem_cons_self)]
theorem lev_two (κ : Nat → Nat) (k s i j : Nat) : levT κ k (.branch s (.leaf i) (.leaf j)) = (.branch s (.leaf i) (.leaf j), 0) := by
  unfold levT
  rw [if_neg (by simp [leansB, tl])]
  split <;> rfl
/-- settled as from above -/
theorem sett_lev {κ : Nat → Nat} {k : Nat} {ctx : List FrT} {u : TT} (h : Pth k ctx) (hu : levT κ k u = (u, 0)) : levT κ k (plug ctx u) = (settT κ ctx u, settN ctx u) := by
  rw [lev_plug ctx u h, hu]
  unfold settT settN
  cases sett ctx u <;> rfl
theorem nd_len : ∀ (n : Nat) (us : List Nat), us.Nodup → (∀ z ∈ us, z < n) → us.length ≤ n
  | 0, us, _, h => by
    cases us with
    | nil => simp
    | cons a r => exact absurd (h a List.mem_cons_self) (by omega)
  | n + 1, us, hn, h => by
    by_cases e : n ∈ us
    · have := nd_len n (us.erase n) (hn.erase n) (fun z hz => by
        have h1 := h z (List.mem_of_mem_erase hz)
        have h2 : z ≠ n := fun e2 => by
          rw [e2] at hz
          exact (List.Nodup.not_mem_erase hn) hz
        omega)
      rw [List.length_erase_of_mem e] at this
      omega
    · have := nd_len n us hn (fun z hz => by
        have h1 := h z hz
        have h2 : z ≠ n := fun e2 => e (by rw [← e2]; exact hz)
        omega)
      omega
/-- the model holds the value -/
def MV (σ : Nat → Nat → Int) (b : Nat) (T : Nat → Nat → Int) (t : TT) : Prop := σ 0 0 = b ∧ (∃ (r : Nat) (ns : List Nat), σ 5 0 = r ∧ RepM σ t r ns ∧ UsM σ ns) ∧ ∀ j, b.testBit j = true → ∀ f, 1 ≤ f → f ≤ 4 → σ f j = T f j
def ME (σ : Nat → Nat → Int) : Prop := σ 0 0 = 0 ∧ σ 5 0 = -4 ∧ UsM σ []
/-- jobs, told by bits, and their table in range -/
def JOk (b : Nat) (T : Nat → Nat → Int) : Prop := b < 4096 ∧ ∀ j, b.testBit j = true → (0 ≤ T 1 j ∧ T 1 j ≤ 3) ∧ (0 ≤ T 2 j ∧ T 2 j ≤ 99) ∧ (0 ≤ T 3 j ∧ T 3 j ≤ 99) ∧ (1 ≤ T 4 j ∧ T 4 j ≤ 9)
def TOk (b : Nat) (t : TT) : Prop := (∀ j, j ∈ tl t ↔ b.testBit j = true) ∧ (tl t).Nodup
theorem tb12 {b j : Nat} (h : b < 4096) (hj : b.testBit j = true) : j < 12 := by
  by_cases e : j < 12
  · exact e
  · have h1 : b < 2 ^ j := Nat.lt_of_lt_of_le h (Nat.pow_le_pow_right (n := 2) (i := 12) (j := j) (by decide) (by omega))
    rw [Nat.testBit_lt_two_pow h1] at hj
    cases hj
theorem TOk.len {b : Nat} {t : TT} (h : TOk b t) (hb : b < 4096) : (tl t).length ≤ 12 := nd_len 12 _ h.2 (fun z hz => tb12 hb ((h.1 z).mp hz))
/-- a job's own bit -/
theorem or_bit (b j i : Nat) : (b ||| 2 ^ j).testBit i = (b.testBit i || decide (j = i)) := by
  rw [Nat.testBit_or, Nat.testBit_two_pow]
theorem or_lt {b j : Nat} (h : b < 4096) (hj : j < 12) : b ||| 2 ^ j < 4096 := Nat.or_lt_two_pow (n := 12) h (Nat.pow_lt_pow_right (by decide) hj)
theorem sett_plug : ∀ {ctx : List FrT} {u : TT} {q : TT × Nat × List FrT}, sett ctx u = some q → plug q.2.2 q.1 = plug ctx u
  | [], u, q, h => by cases h
  | f :: r, u, q, h => by
    have h' : (match sett r (fill f u) with | some q => some q | none => if leansB (fill f u) = true then some (fill f u, f.1, r) else none) = some q := h
    cases hs : sett r (fill f u) with
    | some q2 =>
      rw [hs] at h'
      cases h'
      exact sett_plug (ctx := r) (u := fill f u) hs
    | none =>
      rw [hs] at h'
      dsimp only at h'
      split at h'
      · cases h'
        rfl
      · cases h'
theorem settT_cg {κ κ' : Nat → Nat} {ctx : List FrT} {u : TT} (h : ∀ j ∈ tl (plug ctx u), κ j = κ' j) : settT κ ctx u = settT κ' ctx u := by
  unfold settT
  cases hs : sett ctx u with
  | none => rfl
  | some q =>
    dsimp only
    rw [bld_cg (tl_pos _) (fun j hj => h j (by rw [← sett_plug hs]; exact mem_plug hj))]
theorem mem_plugC : ∀ {ctx : List FrT} {u : TT} {i : Nat}, i ∈ tl (plug ctx u) → i ∈ tl u ∨ ∀ v, i ∈ tl (plug ctx v)
  | [], u, i, h => Or.inl h
  | f :: r, u, i, h => by
    rcases mem_plugC (ctx := r) (u := fill f u) h with h1 | h1
    · unfold fill at h1
      split at h1
      · rename_i hs
        rcases List.mem_append.mp h1 with h2 | h2
        · exact Or.inl h2
        · exact Or.inr (fun v => mem_plug (ctx := r) (by unfold fill; rw [if_pos hs]; exact List.mem_append_right _ h2))
      · rename_i hs
        rcases List.mem_append.mp h1 with h2 | h2
        · exact Or.inr (fun v => mem_plug (ctx := r) (by unfold fill; rw [if_neg hs]; exact List.mem_append_left _ h2))
        · exact Or.inl h2
    · exact Or.inr (fun v => h1 (fill f v))
theorem len_plug : ∀ (ctx : List FrT) (u v : TT), (tl (plug ctx u)).length + (tl v).length = (tl (plug ctx v)).length + (tl u).length
  | [], u, v => by simp [plug]; omega
  | f :: r, u, v => by
    have h1 := len_plug r (fill f u) (fill f v)
    have h2 := tl_fill f u
    have h3 := tl_fill f v
    show (tl (plug r (fill f u))).length + _ = (tl (plug r (fill f v))).length + _
    omega
def addO (κ : Nat → Nat) (j : Nat) : Option TT → TT × Nat
  | none => (.leaf j, 0)
  | some t => levT κ (κ j) (insT κ j t)
