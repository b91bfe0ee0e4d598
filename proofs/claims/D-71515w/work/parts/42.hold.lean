/-! who holds what -/
def ahd (R : Nat → Int) (i j : Nat) : Prop := R i < R j ∨ R i = R j ∧ i < j
/-- one job more is looked at: the best so far, none: -4 -/
def stp (R : Nat → Int) (S : Nat → Bool) (b : Int) (x : Nat) : Int := if S x = true ∧ (b = -4 ∨ R x < R b.toNat ∨ R x = R b.toNat ∧ (x : Int) < b) then (x : Int) else b
def bst (R : Nat → Int) (S : Nat → Bool) (L : List Nat) : Int := L.foldl (stp R S) (-4)
/-- v is the best of those that P tells; -4: there are none -/
def IsB (R : Nat → Int) (P : Nat → Prop) (v : Int) : Prop := (v = -4 ∧ ∀ j, ¬ P j) ∨ ∃ j : Nat, v = (j : Int) ∧ P j ∧ ∀ i, P i → i ≠ j → ahd R j i
theorem IsB.in {R : Nat → Int} {P : Nat → Prop} {v : Int} (h : IsB R P v) : v = -4 ∨ ∃ j : Nat, v = (j : Int) ∧ P j := by
  rcases h with ⟨h, -⟩ | ⟨j, h, h2, -⟩
  · exact Or.inl h
  · exact Or.inr ⟨j, h, h2⟩
theorem IsB.uq {R : Nat → Int} {P : Nat → Prop} {v w : Int} (h : IsB R P v) (h' : IsB R P w) : v = w := by
  rcases h with ⟨e, h⟩ | ⟨j, e, h, h2⟩ <;> rcases h' with ⟨e', h'⟩ | ⟨j', e', h', h2'⟩
  · omega
  · exact absurd h' (h j')
  · exact absurd h (h' j)
  · by_cases q : j = j'
    · omega
    · have a := h2 j' h' (Ne.symm q)
      have b := h2' j h q
      unfold ahd at a b
      omega
theorem IsB.cg {R : Nat → Int} {P P' : Nat → Prop} {v : Int} (h : IsB R P v) (hp : ∀ j, P j ↔ P' j) : IsB R P' v := by
  have : P = P' := funext fun j => propext (hp j)
  rw [← this]
  exact h
theorem bst_is (R : Nat → Int) (S : Nat → Bool) : ∀ (L M : List Nat) (b : Int), IsB R (fun j => j ∈ M ∧ S j = true) b → IsB R (fun j => j ∈ M ++ L ∧ S j = true) (L.foldl (stp R S) b)
  | [], M, b, h => by simpa using h
  | x :: L, M, b, h => by
    have h1 : IsB R (fun j => j ∈ M ++ [x] ∧ S j = true) (stp R S b x) := by
      unfold stp
      by_cases hc : S x = true ∧ (b = -4 ∨ R x < R b.toNat ∨ R x = R b.toNat ∧ (x : Int) < b)
      · rw [if_pos hc]
        right
        refine ⟨x, rfl, ⟨by simp, hc.1⟩, ?_⟩
        rintro i ⟨hi, hs⟩ hne
        simp at hi
        rcases hi with hi | hi
        · rcases h with ⟨e, h⟩ | ⟨j, e, h, h2⟩
          · exact absurd ⟨hi, hs⟩ (h i)
          · have h3 := hc.2
            rw [e] at h3
            simp at h3
            unfold ahd
            by_cases q : i = j
            · subst q
              omega
            · have := h2 i ⟨hi, hs⟩ q
              unfold ahd at this
              omega
        · exact absurd hi hne
      · rw [if_neg hc]
        rcases h with ⟨e, h⟩ | ⟨j, e, h, h2⟩
        · left
          refine ⟨e, ?_⟩
          rintro i ⟨hi, hs⟩
          simp at hi
          rcases hi with hi | hi
          · exact h i ⟨hi, hs⟩
          · subst hi
            exact hc ⟨hs, Or.inl e⟩
        · right
          refine ⟨j, e, ⟨by simp [h.1], h.2⟩, ?_⟩
          rintro i ⟨hi, hs⟩ hne
          simp at hi
          rcases hi with hi | hi
          · exact h2 i ⟨hi, hs⟩ hne
          · subst hi
            rw [e] at hc
            simp [hs] at hc
            unfold ahd
            have := hc.2
            omega
    have h2 := bst_is R S L (M ++ [x]) _ h1
    simpa using h2
theorem bst_spec (R : Nat → Int) (S : Nat → Bool) (L : List Nat) : IsB R (fun j => j ∈ L ∧ S j = true) (bst R S L) := by
  have := bst_is R S L [] (-4) (Or.inl ⟨rfl, by simp⟩)
  simp at this
  exact this
theorem bst_cg {R R' : Nat → Int} {S S' : Nat → Bool} {L : List Nat} (hR : ∀ j ∈ L, R j = R' j) (hS : ∀ j ∈ L, S j = S' j) : bst R S L = bst R' S' L := by
  have h1 := bst_spec R S L
  have h2 : IsB R' (fun j => j ∈ L ∧ S' j = true) (bst R S L) := by
    rcases h1 with ⟨e, h⟩ | ⟨j, e, h, h2⟩
    · exact Or.inl ⟨e, fun j q => h j ⟨q.1, by rw [hS j q.1]; exact q.2⟩⟩
    · refine Or.inr ⟨j, e, ⟨h.1, by rw [← hS j h.1]; exact h.2⟩, fun i q hne => ?_⟩
      have := h2 i ⟨q.1, by rw [hS i q.1]; exact q.2⟩ hne
      unfold ahd at this ⊢
      rw [← hR j h.1, ← hR i q.1]
      exact this
  exact h2.uq (bst_spec R' S' L)
def wo (S : Nat → Bool) (v : Int) : Nat → Bool := fun i => S i && !decide ((i : Int) = v)
/-- what the nodes hold, from above, left ahead of right; S: the jobs that no node above holds -/
def hl (R : Nat → Int) : TT → (Nat → Bool) → List Int
  | .leaf j, S => [bst R S [j]]
  | .branch _ a b, S => bst R S (tl a ++ tl b) :: (hl R a (wo S (bst R S (tl a ++ tl b))) ++ hl R b (wo S (bst R S (tl a ++ tl b))))
theorem hl_len (R : Nat → Int) : ∀ (t : TT) (S : Nat → Bool), (hl R t S).length = nn t
  | .leaf _, _ => rfl
  | .branch _ a b, S => by simp [hl, nn, hl_len R a, hl_len R b]; omega
theorem hl_cg {R R' : Nat → Int} : ∀ (t : TT) {S S' : Nat → Bool}, (∀ j ∈ tl t, R j = R' j) → (∀ j ∈ tl t, S j = S' j) → hl R t S = hl R' t S'
  | .leaf j, S, S', hR, hS => by simp only [hl]; rw [bst_cg (L := [j]) (by simpa [tl] using hR) (by simpa [tl] using hS)]
  | .branch _ a b, S, S', hR, hS => by
    have e : bst R S (tl a ++ tl b) = bst R' S' (tl a ++ tl b) := bst_cg hR hS
    simp only [hl]
    rw [e]
    rw [hl_cg a (R' := R') (S' := wo S' (bst R' S' (tl a ++ tl b))) (fun j hj => hR j (List.mem_append_left _ hj)) (fun j hj => by unfold wo; rw [hS j (List.mem_append_left _ hj)])]
    rw [hl_cg b (R' := R') (S' := wo S' (bst R' S' (tl a ++ tl b))) (fun j hj => hR j (List.mem_append_right _ hj)) (fun j hj => by unfold wo; rw [hS j (List.mem_append_right _ hj)])]
theorem hl_hd (R : Nat → Int) (t : TT) (S : Nat → Bool) : ∃ r, hl R t S = bst R S (tl t) :: r := by
  cases t with
  | leaf j => exact ⟨[], rfl⟩
  | branch _ a b => exact ⟨_, rfl⟩
theorem hl_in (R : Nat → Int) : ∀ (t : TT) (S : Nat → Bool), ∀ v ∈ hl R t S, v = -4 ∨ ∃ j ∈ tl t, v = (j : Int) ∧ S j = true
  | .leaf j, S, v, h => by
    simp [hl] at h
    rcases (bst_spec R S [j]).in with q | ⟨i, q, q2⟩
    · left; rw [h, q]
    · right; exact ⟨i, q2.1, by rw [h, q], q2.2⟩
  | .branch s a b, S, v, h => by
    simp only [hl] at h
    rcases List.mem_cons.mp h with e | e
    · rcases (bst_spec R S (tl a ++ tl b)).in with q | ⟨i, q, q2⟩
      · left; rw [e, q]
      · right; exact ⟨i, q2.1, by rw [e, q], q2.2⟩
    · rcases List.mem_append.mp e with e | e
      · rcases hl_in R a _ v e with q | ⟨i, q, q2, q3⟩
        · exact Or.inl q
        · simp [wo] at q3
          exact Or.inr ⟨i, List.mem_append_left _ q, q2, q3.1⟩
      · rcases hl_in R b _ v e with q | ⟨i, q, q2, q3⟩
        · exact Or.inl q
        · simp [wo] at q3
          exact Or.inr ⟨i, List.mem_append_right _ q, q2, q3.1⟩
/-- ranks by the table -/
def rkT (T : Nat → Nat → Int) (j : Nat) : Int := rk (T 1 j) (T 4 j) (T 3 j)
theorem rk_in {k ln d : Int} (h0 : 0 ≤ d) (h1 : d ≤ 1000) (h2 : 0 ≤ ln) (h3 : ln ≤ 100) : 0 ≤ rk k ln d ∧ rk k ln d ≤ 1100 := by
  unfold rk
  split
  · omega
  · split
    · omega
    · split
      · split <;> omega
      · omega
/-- a job of the model's in range -/
def JR (σ : Nat → Nat → Int) (j : Nat) : Prop := j < 12 ∧ (0 ≤ σ 3 j ∧ σ 3 j ≤ 1000) ∧ (0 ≤ σ 4 j ∧ σ 4 j ≤ 100)
section M9
variable {l : Launch} {E : EE}
theorem ct_isDue (hE : EOk E) (hm : 438 ≤ E.nk) (γ : GG) {j : Nat} {o : Int} (hj : JR (γ 0) j) (ho : o = -4 ∨ ∃ i : Nat, o = (i : Int) ∧ JR (γ 0) i) : Ct l yX8_isDue cX8_isDue 3 (some .boolean) E 300 24000 [.ref (E.ad 414), .int (iI (j : Int)), .int (iI o)] γ (pI (b2i (o = -4 ∨ rkT (γ 0) j < rkT (γ 0) o.toNat ∨ rkT (γ 0) j = rkT (γ 0) o.toNat ∧ (j : Int) < o)) γ) 0 0 := by
  refine Ct.of hE (by decide) (Nat.le_of_ble_eq_true rfl) (fun Φ hLn hΦ F hfr hlo => ?_)
  subst hLn; subst hΦ
  have h414 := F.ok.1.2.2
  have hrc := F.rc
  have hrs := F.rs
  show Wg Φ 3 _ 0 0 0 [(0, _), (1, _), (2, _)] []
  refine w_rng (fun hR => ?_)
  have hj12 := hj.1
  have hro : -4 ≤ o ∧ o < 12 := by
    rcases ho with h | ⟨i, h, h2⟩
    · omega
    · have := h2.1
      omega
  refine w_iload_n F dX8_isDue_0 rfl ?_
  refine w_bipush F dX8_isDue_1 rfl ?_
  refine w_icmp_eq F (tgt := 37) dX8_isDue_3 (by decide) (by first | assumption | exact inR0 | exact (hR _ _ _).1 | (constructor <;> omega)) (by first | assumption | exact inR0 | exact (hR _ _ _).1 | (constructor <;> omega)) (fun h => ?_) (fun h => ?_)
  · refine w_iconst F dX8_isDue_37 ?_
    refine w_goto F (tgt := 42) dX8_isDue_38 (by decide) ?_
    exact w_zret F (by first | exact Or.inl rfl | exact Or.inr rfl | assumption | omega) (by omega) (by omega) (⟨by rw [b2i_t (Or.inl h)], rfl⟩) dX8_isDue_42
  · obtain ⟨i, rfl, hi⟩ : ∃ i : Nat, o = (i : Int) ∧ JR (γ 0) i := by
      rcases ho with q | q
      · exact absurd q h
      · exact q
    have hi12 := hi.1
    have rj := rk_in (k := γ 0 1 j) hj.2.1.1 hj.2.1.2 hj.2.2.1 hj.2.2.2
    have ri := rk_in (k := γ 0 1 i) hi.2.1.1 hi.2.1.2 hi.2.2.1 hi.2.2.2
    refine w_aload_n F dX8_isDue_6 rfl rfl ?_
    refine w_iload_n F dX8_isDue_7 rfl ?_
    refine w_callV F (As := [_]) (ct_rank hE hm γ hj12 hj.2.1.1 hj.2.1.2 hj.2.2.1 hj.2.2.2) (lw_V q983 q985 qs46 q88 q986) md_X8_rank (by omega) cell_mdO rfl rfl rfl rfl (Nat.le_of_ble_eq_true rfl) dX8_isDue_8 ⟨by omega, by omega⟩ ⟨by omega, by omega⟩ ?_
    rintro _ _ ⟨rfl, rfl⟩
    refine w_aload_n F dX8_isDue_11 rfl rfl ?_
    refine w_iload_n F dX8_isDue_12 rfl ?_
    refine w_callV F (As := [_]) (ct_rank hE hm γ hi12 hi.2.1.1 hi.2.1.2 hi.2.2.1 hi.2.2.2) (lw_V q983 q985 qs46 q88 q986) md_X8_rank (by omega) cell_mdO rfl rfl rfl rfl (Nat.le_of_ble_eq_true rfl) dX8_isDue_13 ⟨by omega, by omega⟩ ⟨by omega, by omega⟩ ?_
    rintro _ _ ⟨rfl, rfl⟩
    have hcd : ((i : Int) = -4 ∨ rkT (γ 0) j < rkT (γ 0) (i : Int).toNat ∨ rkT (γ 0) j = rkT (γ 0) (i : Int).toNat ∧ (j : Int) < (i : Int)) ↔ (rk (γ 0 1 j) (γ 0 4 j) (γ 0 3 j) < rk (γ 0 1 i) (γ 0 4 i) (γ 0 3 i) ∨ rk (γ 0 1 j) (γ 0 4 j) (γ 0 3 j) = rk (γ 0 1 i) (γ 0 4 i) (γ 0 3 i) ∧ (j : Int) < (i : Int)) := by
      unfold rkT
      rw [Int.toNat_natCast]
      omega
    refine w_icmp_lt F (tgt := 37) dX8_isDue_16 (by decide) (by first | assumption | exact inR0 | exact (hR _ _ _).1 | (constructor <;> omega)) (by first | assumption | exact inR0 | exact (hR _ _ _).1 | (constructor <;> omega)) (fun h2 => ?_) (fun h2 => ?_)
    · refine w_iconst F dX8_isDue_37 ?_
      refine w_goto F (tgt := 42) dX8_isDue_38 (by decide) ?_
      exact w_zret F (by first | exact Or.inl rfl | exact Or.inr rfl | assumption | omega) (by omega) (by omega) (⟨by rw [b2i_t (hcd.mpr (Or.inl h2))], rfl⟩) dX8_isDue_42
    · refine w_aload_n F dX8_isDue_19 rfl rfl ?_
      refine w_iload_n F dX8_isDue_20 rfl ?_
      refine w_callV F (As := [_]) (ct_rank hE hm γ hj12 hj.2.1.1 hj.2.1.2 hj.2.2.1 hj.2.2.2) (lw_V q983 q985 qs46 q88 q986) md_X8_rank (by omega) cell_mdO rfl rfl rfl rfl (Nat.le_of_ble_eq_true rfl) dX8_isDue_21 ⟨by omega, by omega⟩ ⟨by omega, by omega⟩ ?_
      rintro _ _ ⟨rfl, rfl⟩
      refine w_aload_n F dX8_isDue_24 rfl rfl ?_
      refine w_iload_n F dX8_isDue_25 rfl ?_
      refine w_callV F (As := [_]) (ct_rank hE hm γ hi12 hi.2.1.1 hi.2.1.2 hi.2.2.1 hi.2.2.2) (lw_V q983 q985 qs46 q88 q986) md_X8_rank (by omega) cell_mdO rfl rfl rfl rfl (Nat.le_of_ble_eq_true rfl) dX8_isDue_26 ⟨by omega, by omega⟩ ⟨by omega, by omega⟩ ?_
      rintro _ _ ⟨rfl, rfl⟩
      refine w_icmp_ne F (tgt := 41) dX8_isDue_29 (by decide) (by first | assumption | exact inR0 | exact (hR _ _ _).1 | (constructor <;> omega)) (by first | assumption | exact inR0 | exact (hR _ _ _).1 | (constructor <;> omega)) (fun h3 => ?_) (fun h3 => ?_)
      · refine w_iconst F dX8_isDue_41 ?_
        exact w_zret F (by first | exact Or.inl rfl | exact Or.inr rfl | assumption | omega) (by omega) (by omega) (⟨by rw [b2i_f (fun q => by have := hcd.mp q; omega)], rfl⟩) dX8_isDue_42
      · refine w_iload_n F dX8_isDue_32 rfl ?_
        refine w_iload_n F dX8_isDue_33 rfl ?_
        refine w_icmp_ge F (tgt := 41) dX8_isDue_34 (by decide) (by first | assumption | exact inR0 | exact (hR _ _ _).1 | (constructor <;> omega)) (by first | assumption | exact inR0 | exact (hR _ _ _).1 | (constructor <;> omega)) (fun h4 => ?_) (fun h4 => ?_)
        · refine w_iconst F dX8_isDue_41 ?_
          exact w_zret F (by first | exact Or.inl rfl | exact Or.inr rfl | assumption | omega) (by omega) (by omega) (⟨by rw [b2i_f (fun q => by have := hcd.mp q; omega)], rfl⟩) dX8_isDue_42
        · refine w_iconst F dX8_isDue_37 ?_
          refine w_goto F (tgt := 42) dX8_isDue_38 (by decide) ?_
          exact w_zret F (by first | exact Or.inl rfl | exact Or.inr rfl | assumption | omega) (by omega) (by omega) (⟨by rw [b2i_t (hcd.mpr (Or.inr ⟨h3, h4⟩))], rfl⟩) dX8_isDue_42
theorem ct_dueOf (hE : EOk E) (hm : 438 ≤ E.nk) (γ : GG) {L : List Nat} {hd : Nat} (hrow : HL (γ 0 13) (nzs L)) (hl12 : L.length ≤ 12) (hL : ∀ j ∈ L, JR (γ 0) j) (hhd : hd < 4096) : Ct l yX8_dueOf cX8_dueOf 5 (some .int) E 400 28000 [.ref (E.ad 414), .int (iI (L.length : Int)), .int (iI (hd : Int))] γ (pI (bst (rkT (γ 0)) (fun j => !hd.testBit j) L) γ) 0 0 := by
  refine Ct.of hE (by decide) (Nat.le_of_ble_eq_true rfl) (fun Φ hLn hΦ F hfr hlo => ?_)
  subst hLn; subst hΦ
  have h414 := F.ok.1.2.2
  have hrc := F.rc
  have hrs := F.rs
  show Wg Φ 5 _ 0 0 0 [(0, _), (1, _), (2, _)] []
  refine w_rng (fun hR => ?_)
  refine w_bipush F dX8_dueOf_0 rfl ?_
  refine w_istore_n F dX8_dueOf_2 (by decide) rfl (lv' := [(0, _), (1, _), (2, _), (3, _)]) rfl ?_
  refine w_iconst F dX8_dueOf_3 ?_
  refine w_istore F dX8_dueOf_4 (by decide) rfl (lv' := [(0, _), (1, _), (2, _), (3, _), (4, _)]) rfl ?_
  have loop : ∀ (m : Nat) (M N : List Nat) (b : Int), L = M ++ N → N.length < m → b = M.foldl (stp (rkT (γ 0)) (fun j => !hd.testBit j)) (-4) → Wg Φ 5 γ 0 0 6 [(0, .ref (Φ.E.ad 414)), (1, .int (iI (L.length : Int))), (2, .int (iI (hd : Int))), (3, .int (iI b)), (4, .int (iI (M.length : Int)))] [] := by
    intro m
    induction m with
    | zero => intro M N b h1 h2; omega
    | succ m ih =>
      intro M N b h1 h2 h3
      have hlen : M.length + N.length = L.length := by rw [h1]; simp
      have hb : b = -4 ∨ ∃ i : Nat, b = (i : Int) ∧ JR (γ 0) i := by
        have := bst_spec (rkT (γ 0)) (fun j => !hd.testBit j) M
        rcases this.in with q | ⟨i, q, q2⟩
        · left; rw [h3]; exact q
        · right; exact ⟨i, by rw [h3]; exact q, hL i (by rw [h1]; simp [q2.1])⟩
      have hbr : -4 ≤ b ∧ b < 12 := by
        rcases hb with q | ⟨i, q, q2⟩
        · omega
        · have := q2.1
          omega
      cases N with
      | nil =>
        simp at hlen
        refine w_iload F dX8_dueOf_6 rfl ?_
        refine w_iload_n F dX8_dueOf_8 rfl ?_
        refine w_icmp_ge F (tgt := 59) dX8_dueOf_9 (by decide) (by first | assumption | exact inR0 | exact (hR _ _ _).1 | (constructor <;> omega)) (by first | assumption | exact inR0 | exact (hR _ _ _).1 | (constructor <;> omega)) (fun h => ?_) (fun h => ?_)
        · refine w_iload_n F dX8_dueOf_59 rfl ?_
          exact w_iret F (by omega) (by omega) (⟨by rw [h3, h1]; simp [bst], rfl⟩) dX8_dueOf_60
        · omega
      | cons x N =>
        have hx := hL x (by rw [h1]; simp)
        have hx12 := hx.1
        simp at hlen
        have hrx : γ 0 13 M.length = (x : Int) := hrow M.length x (by rw [h1]; simp)
        have ih := ih (M ++ [x]) N (stp (rkT (γ 0)) (fun j => !hd.testBit j) b x) (by rw [h1]; simp) (by simp at h2; omega) (by rw [List.foldl_append, ← h3]; rfl)
        rw [show ((M ++ [x]).length : Int) = (M.length : Int) + 1 by simp] at ih
        refine w_iload F dX8_dueOf_6 rfl ?_
        refine w_iload_n F dX8_dueOf_8 rfl ?_
        refine w_icmp_ge F (tgt := 59) dX8_dueOf_9 (by decide) (by first | assumption | exact inR0 | exact (hR _ _ _).1 | (constructor <;> omega)) (by first | assumption | exact inR0 | exact (hR _ _ _).1 | (constructor <;> omega)) (fun h => ?_) (fun h => ?_)
        · omega
        · refine w_iload_n F dX8_dueOf_12 rfl ?_
          refine w_aload_n F dX8_dueOf_13 rfl rfl ?_
          refine w_get F (by omega) cell_mdO rfl in_X8 13 (by decide) (Or.inl q885) rfl dX8_dueOf_14 ?_
          refine w_iload F dX8_dueOf_17 rfl ?_
          first | refine w_ialdN F (aM13 _) (by omega) (by decide) (by omega) dX8_dueOf_19 ?_ | refine w_iald F (aM13 _) (by omega) (by decide) (by omega) (by omega) dX8_dueOf_19 ?_
          refine w_top hrx ?_
          refine w_callS F (As := [_, _]) (ct_has hE γ (a := hd) (j := x) (by omega) (by omega)) (lw_S q830 q831 q88 q832) md_X8_has rfl rfl (Nat.le_of_ble_eq_true rfl) dX8_dueOf_20 ⟨by omega, by omega⟩ ⟨by omega, by omega⟩ ?_
          rintro _ _ ⟨rfl, rfl⟩
          refine w_if_ne F (tgt := 51) dX8_dueOf_23 (by decide) (b2i_R _) (fun h9 => ?_) (fun h9 => ?_)
          · rw [b2i_n0] at h9
            refine w_iload_n F dX8_dueOf_51 rfl ?_
            refine w_istore_n F dX8_dueOf_52 (by decide) rfl (lv' := [(0, _), (1, _), (2, _), (3, _), (4, _)]) rfl ?_
            refine w_iinc F dX8_dueOf_53 rfl (by decide) rfl (lv' := [(0, _), (1, _), (2, _), (3, _), (4, _)]) rfl ?_
            refine w_goto F (tgt := 6) dX8_dueOf_56 (by decide) ?_
            rw [show stp (rkT (γ 0)) (fun j => !hd.testBit j) b x = b from if_neg (by simp [h9])] at ih
            exact ih
          · rw [b2i_0] at h9
            refine w_aload_n F dX8_dueOf_26 rfl rfl ?_
            refine w_aload_n F dX8_dueOf_27 rfl rfl ?_
            refine w_get F (by omega) cell_mdO rfl in_X8 13 (by decide) (Or.inl q885) rfl dX8_dueOf_28 ?_
            refine w_iload F dX8_dueOf_31 rfl ?_
            first | refine w_ialdN F (aM13 _) (by omega) (by decide) (by omega) dX8_dueOf_33 ?_ | refine w_iald F (aM13 _) (by omega) (by decide) (by omega) (by omega) dX8_dueOf_33 ?_
            refine w_top hrx ?_
            refine w_iload_n F dX8_dueOf_34 rfl ?_
            refine w_callV F (As := [_, _]) (ct_isDue hE hm γ hx hb) (lw_V q1003 q1005 qs51 q88 q1006) md_X8_isDue (by omega) cell_mdO rfl rfl rfl rfl (Nat.le_of_ble_eq_true rfl) dX8_dueOf_35 ⟨by omega, by omega⟩ ⟨by omega, by omega⟩ ?_
            rintro _ _ ⟨rfl, rfl⟩
            refine w_if_eq F (tgt := 51) dX8_dueOf_38 (by decide) (b2i_R _) (fun h8 => ?_) (fun h8 => ?_)
            · rw [b2i_0] at h8
              refine w_iload_n F dX8_dueOf_51 rfl ?_
              refine w_istore_n F dX8_dueOf_52 (by decide) rfl (lv' := [(0, _), (1, _), (2, _), (3, _), (4, _)]) rfl ?_
              refine w_iinc F dX8_dueOf_53 rfl (by decide) rfl (lv' := [(0, _), (1, _), (2, _), (3, _), (4, _)]) rfl ?_
              refine w_goto F (tgt := 6) dX8_dueOf_56 (by decide) ?_
              rw [show stp (rkT (γ 0)) (fun j => !hd.testBit j) b x = b from if_neg (fun q => h8 q.2)] at ih
              exact ih
            · rw [b2i_n0] at h8
              refine w_aload_n F dX8_dueOf_41 rfl rfl ?_
              refine w_get F (by omega) cell_mdO rfl in_X8 13 (by decide) (Or.inl q885) rfl dX8_dueOf_42 ?_
              refine w_iload F dX8_dueOf_45 rfl ?_
              first | refine w_ialdN F (aM13 _) (by omega) (by decide) (by omega) dX8_dueOf_47 ?_ | refine w_iald F (aM13 _) (by omega) (by decide) (by omega) (by omega) dX8_dueOf_47 ?_
              refine w_top hrx ?_
              refine w_goto F (tgt := 52) dX8_dueOf_48 (by decide) ?_
              refine w_istore_n F dX8_dueOf_52 (by decide) rfl (lv' := [(0, _), (1, _), (2, _), (3, _), (4, _)]) rfl ?_
              refine w_iinc F dX8_dueOf_53 rfl (by decide) rfl (lv' := [(0, _), (1, _), (2, _), (3, _), (4, _)]) rfl ?_
              refine w_goto F (tgt := 6) dX8_dueOf_56 (by decide) ?_
              rw [show stp (rkT (γ 0)) (fun j => !hd.testBit j) b x = (x : Int) from if_pos ⟨by simpa using h9, h8⟩] at ih
              exact ih
  exact loop (L.length + 1) [] L (-4) rfl (by omega) rfl
end M9
