/-! the model: bits, end, late, drop, more -/
theorem sch_cg {T T' : Nat → Nat → Int} {later : Int} : ∀ (n left : Nat) (time : Int) (late : Nat) (E E' : Nat → Int), (∀ j, left.testBit j = true → j < 12 → ∀ f, 1 ≤ f → f ≤ 4 → T f j = T' f j) → left < 4096 → (∀ j, left.testBit j = true → 0 ≤ T' 2 j ∧ T' 2 j ≤ 99) → (sch T later n left time late E).1 = (sch T' later n left time late E').1 ∧ ∀ i, (E i = E' i ∨ (left.testBit i = true ∧ mu T' later left time < n)) → (sch T later n left time late E).2 i = (sch T' later n left time late E').2 i
  | 0, left, time, late, E, E', hT, hb, hS0 => ⟨rfl, fun i h => by
      rcases h with h | ⟨_, h⟩
      · exact h
      · omega⟩
  | n + 1, left, time, late, E, E', hT, hb, hS0 => by
    have hnx : nx T later left time = nx T' later left time := by
      unfold nx
      have hS : ∀ j ∈ List.range 12, may T left time j = may T' left time j := fun j hj => by
        unfold may
        cases e : left.testBit j with
        | true => rw [hT j e (by simpa using hj) 2 (by omega) (by omega)]
        | false => rfl
      have h1 := bst_spec (rkL T later) (may T left time) (List.range 12)
      have h2 : IsB (rkL T' later) (fun j => j ∈ List.range 12 ∧ may T' left time j = true) (bst (rkL T later) (may T left time) (List.range 12)) := by
        have hr : ∀ j, j ∈ List.range 12 → may T left time j = true → rkL T later j = rkL T' later j := fun j hj hm => by
          have hb : left.testBit j = true := by simp [may] at hm; exact hm.1
          unfold rkL
          rw [hT j hb (by simpa using hj) 1 (by omega) (by omega), hT j hb (by simpa using hj) 3 (by omega) (by omega), hT j hb (by simpa using hj) 4 (by omega) (by omega)]
        rcases h1 with ⟨e, h⟩ | ⟨j, e, h, h2⟩
        · exact Or.inl ⟨e, fun j q => h j ⟨q.1, by rw [hS j q.1]; exact q.2⟩⟩
        · refine Or.inr ⟨j, e, ⟨h.1, by rw [← hS j h.1]; exact h.2⟩, fun i q hne => ?_⟩
          have h3 : may T left time i = true := by rw [hS i q.1]; exact q.2
          have := h2 i ⟨q.1, h3⟩ hne
          unfold ahd at this ⊢
          rw [← hr j h.1 h.2, ← hr i q.1 h3]
          exact this
      exact h2.uq (bst_spec _ _ _)
    have hms : mst T left 1000000 = mst T' left 1000000 := by
      unfold mst
      have : ∀ (L : List Nat) (c : Int), (∀ j ∈ L, j < 12) → L.foldl (fun m j => if left.testBit j = true ∧ T 2 j < m then T 2 j else m) c = L.foldl (fun m j => if left.testBit j = true ∧ T' 2 j < m then T' 2 j else m) c := by
        intro L
        induction L with
        | nil => intro c _; rfl
        | cons a L ih =>
          intro c hL
          simp only [List.foldl_cons]
          have e : (if left.testBit a = true ∧ T 2 a < c then T 2 a else c) = (if left.testBit a = true ∧ T' 2 a < c then T' 2 a else c) := by
            by_cases q : left.testBit a = true
            · rw [hT a q (hL a (by simp)) 2 (by omega) (by omega)]
            · simp [q]
          rw [e]
          exact ih _ (fun j hj => hL j (by simp [hj]))
      exact this _ _ (fun j hj => by simpa using hj)
    simp only [sch]
    rw [hnx, hms]
    by_cases h0 : left = 0
    · rw [if_pos h0, if_pos h0]
      refine ⟨rfl, fun i h => ?_⟩
      rcases h with h | ⟨h, _⟩
      · exact h
      · rw [h0] at h
        simp at h
    · rw [if_neg h0, if_neg h0]
      rcases nx_in (T := T') (later := later) (left := left) (time := time) with q | ⟨j, q, j1, j2, j3⟩
      · rw [if_pos q, if_pos q]
        have ih := sch_cg (T := T) (T' := T') (later := later) n left (mst T' left 1000000) late E E' hT hb hS0
        refine ⟨ih.1, fun i h => ih.2 i ?_⟩
        rcases h with h | ⟨h1, h2⟩
        · exact Or.inl h
        · refine Or.inr ⟨h1, ?_⟩
          unfold mu at h2 ⊢
          rw [if_pos q] at h2
          split
          · rename_i hh
            exfalso
            obtain ⟨_, _, k, k1, k2⟩ := mst_in (T := T') h0 hb hS0 (c := 1000000) (by omega)
            exact nx_no hh (tb12 hb k1) k1 (by omega)
          · omega
      · rw [if_neg (show ¬ nx T' later left time = -4 by omega), if_neg (show ¬ nx T' later left time = -4 by omega), q, Int.toNat_natCast]
        rw [hT j j2 j1 4 (by omega) (by omega), hT j j2 j1 3 (by omega) (by omega)]
        have hw : ∀ i, (wob left j).testBit i = true → left.testBit i = true ∧ i ≠ j := fun i hi => by
          rw [wob_bit] at hi
          simp at hi
          exact ⟨hi.1, fun e => hi.2 e.symm⟩
        have ih := sch_cg (T := T) (T' := T') (later := later) n (wob left j) (time + T' 4 j) (late ||| (if time + T' 4 j > T' 3 j + later then 2 ^ j else 0)) (upE E j (time + T' 4 j)) (upE E' j (time + T' 4 j)) (fun i hi => hT i (hw i hi).1) (xor_lt hb) (fun i hi => hS0 i (hw i hi).1)
        refine ⟨ih.1, fun i h => ih.2 i ?_⟩
        by_cases e : i = j
        · left
          unfold upE
          rw [if_pos e, if_pos e]
        · rcases h with h | ⟨h1, h2⟩
          · left
            unfold upE
            rw [if_neg e, if_neg e]
            exact h
          · right
            have hc := cnt_wob 12 j2
            rw [if_pos j1] at hc
            refine ⟨by rw [wob_bit, h1]; simp; exact fun z => e z.symm, ?_⟩
            unfold mu at h2 ⊢
            rw [if_neg (by omega)] at h2
            split <;> omega
/-- which are late -/
def lateB (T : Nat → Nat → Int) (later : Int) (b : Nat) : Nat := (sch T later 30 b 0 0 (fun _ => 0)).1
def endB (T : Nat → Nat → Int) (b j : Nat) : Int := (sch T 0 30 b 0 0 (fun _ => 0)).2 j
def stD (b : Nat) (f : Nat → Nat) (q : Int × Int) (j : Nat) : Int × Int := if b.testBit j = true ∧ (f j : Int) < q.2 then ((j : Int), (f j : Int)) else q
def drp (b : Nat) (f : Nat → Nat) (c : Int) : Int × Int := (List.range 12).foldl (stD b f) (-4, c)
/-- the first of the first n numbers from g on that makes f 0; none: -4 -/
def mre (f : Nat → Nat) : Nat → Nat → Int
  | 0, _ => -4
  | n + 1, g => if f g = 0 then (g : Int) else mre f n (g + 1)
theorem late_lt {T : Nat → Nat → Int} {later : Int} : ∀ (n left : Nat) (time : Int) (late : Nat) (E : Nat → Int), late < 4096 → (sch T later n left time late E).1 < 4096
  | 0, _, _, _, _, h => h
  | n + 1, left, time, late, E, h => by
    simp only [sch]
    split
    · exact h
    · split
      · exact late_lt n _ _ _ _ h
      · rename_i hne
        refine late_lt n _ _ _ _ ?_
        rcases nx_in (T := T) (later := later) (left := left) (time := time) with q | ⟨j, q, j1, j2, j3⟩
        · exact absurd q hne
        · rw [q, Int.toNat_natCast]
          split
          · exact or_lt h j1
          · simpa using h
section M22
variable {l : Launch} {E : EE}
theorem ct_bits (hE : EOk E) (γ : GG) {b : Nat} (hb2 : b < 4096) : Ct l yX8_bits cX8_bits 3 (some .int) E 100 16000 [.int (iI (b : Int))] γ (pI (cnt b 12) γ) 0 0 := by
  refine Ct.of hE (by decide) (Nat.le_of_ble_eq_true rfl) (fun Φ hLn hΦ F hfr hlo => ?_)
  subst hLn; subst hΦ
  have h414 := F.ok.1.2.2
  have hrc := F.rc
  have hrs := F.rs
  show Wg Φ 3 _ 0 0 0 [(0, _)] []
  refine w_rng (fun hR => ?_)
  refine w_iconst F dX8_bits_0 ?_
  refine w_istore_n F dX8_bits_1 (by decide) rfl (lv' := [(0, _), (1, _)]) rfl ?_
  refine w_iconst F dX8_bits_2 ?_
  refine w_istore_n F dX8_bits_3 (by decide) rfl (lv' := [(0, _), (1, _), (2, _)]) rfl ?_
  have loop : ∀ m j : Nat, j ≤ 12 → 12 - j < m → Wg Φ 3 γ 0 0 4 [(0, .int (iI (b : Int))), (1, .int (iI (cnt b j : Int))), (2, .int (iI (j : Int)))] [] := by
    intro m
    induction m with
    | zero => intro j h1 h2; omega
    | succ m ih =>
      intro j h1 h2
      have hc := cnt_le b j
      refine w_iload_n F dX8_bits_4 rfl ?_
      refine w_bipush F dX8_bits_5 rfl ?_
      refine w_icmp_ge F (tgt := 24) dX8_bits_7 (by decide) (by first | assumption | exact inR0 | exact (hR _ _ _).1 | (constructor <;> omega)) (by first | assumption | exact inR0 | exact (hR _ _ _).1 | (constructor <;> omega)) (fun h => ?_) (fun h => ?_)
      · refine w_iload_n F dX8_bits_24 rfl ?_
        exact w_iret F (by omega) (by omega) (⟨by rw [show j = 12 by omega], rfl⟩) dX8_bits_25
      · refine w_iload_n F dX8_bits_10 rfl ?_
        refine w_iload_n F dX8_bits_11 rfl ?_
        refine w_iload_n F dX8_bits_12 rfl ?_
        refine w_ishr F (by omega) (by omega) dX8_bits_13 ?_
        refine w_iconst F dX8_bits_14 ?_
        first | refine w_iandC F (by omega) dX8_bits_15 ?_ | refine w_iand F dX8_bits_15 ?_
        refine w_iadd F dX8_bits_16 ?_
        refine w_istore_n F dX8_bits_17 (by decide) rfl (lv' := [(0, _), (1, _), (2, _)]) rfl ?_
        refine w_iinc F dX8_bits_18 rfl (by decide) rfl (lv' := [(0, _), (1, _), (2, _)]) rfl ?_
        refine w_goto F (tgt := 4) dX8_bits_21 (by decide) ?_
        have e1 : ((cnt b j : Nat) : Int) + ((b / 2 ^ j &&& 1 : Nat) : Int) = ((cnt b (j + 1) : Nat) : Int) := by rw [tb_and1]; rfl
        rw [e1]
        exact ih (j + 1) (by omega) (by omega)
  exact loop 13 0 (by omega) (by omega)
theorem MV.jb {σ : Nat → Nat → Int} {v : VV} (h : MV σ v.1 v.2.1 v.2.2) (hV : VOk v) : JB σ v.1 := ⟨hV.1.1, fun j hj => by
  have h1 := hV.1.2 j hj
  rw [h.2.2 j hj 2 (by omega) (by omega), h.2.2 j hj 3 (by omega) (by omega), h.2.2 j hj 4 (by omega) (by omega)]
  exact ⟨h1.2.1, h1.2.2.1, h1.2.2.2⟩⟩
/-- the machine's answers by the value's table -/
theorem sch_val {σ : Nat → Nat → Int} {v : VV} (h : MV σ v.1 v.2.1 v.2.2) (hV : VOk v) {c : Nat} (hc : c < 4096) (hs : ∀ j, c.testBit j = true → v.1.testBit j = true) (later : Int) (E : Nat → Int) : (sch σ later 30 c 0 0 E).1 = lateB v.2.1 later c ∧ ∀ i, c.testBit i = true → (sch σ later 30 c 0 0 E).2 i = (sch v.2.1 later 30 c 0 0 (fun _ => 0)).2 i := by
  have := sch_cg (T := σ) (T' := v.2.1) (later := later) 30 c 0 0 E (fun _ => 0) (fun j hj _ f f1 f2 => h.2.2 j (hs j hj) f f1 f2) hc (fun j hj => (hV.1.2 j (hs j hj)).2.1)
  refine ⟨this.1, fun i hi => this.2 i (Or.inr ⟨hi, ?_⟩)⟩
  have := cnt_le c 12
  unfold mu
  split <;> omega
theorem ct_endM (hE : EOk E) (hm : 438 ≤ E.nk) (γ : GG) {v : VV} (hM : MV (γ 0) v.1 v.2.1 v.2.2) (hV : VOk v) {j : Int} (hj : InR j) : Ct l yX8_end cX8_end 2 (some .int) E 600 36000 [.ref (E.ad 414), .int (iI j)] γ (fun r g => Off0 [26] γ g ∧ ((¬ isJobP v.1 j ∧ r = some (.int (iI (-1)))) ∨ (isJobP v.1 j ∧ r = some (.int (iI (endB v.2.1 v.1 j.toNat)))))) 0 0 := by
  refine Ct.of hE (by decide) (Nat.le_of_ble_eq_true rfl) (fun Φ hLn hΦ F hfr hlo => ?_)
  subst hLn; subst hΦ
  have h414 := F.ok.1.2.2
  have hrc := F.rc
  have hrs := F.rs
  show Wg Φ 2 _ 0 0 0 [(0, _), (1, _)] []
  refine w_rng (fun hR => ?_)
  have hb : γ 0 0 0 = (v.1 : Int) := hM.1
  have hb2 := hV.1.1
  refine w_aload_n F dX8_end_0 rfl rfl ?_
  refine w_iload_n F dX8_end_1 rfl ?_
  refine w_callV F (As := [_]) (ct_isJob hE hm γ hb hb2 hj) (lw_V q976 q978 qs45 q88 q979) md_X8_isJob (by omega) cell_mdO rfl rfl rfl rfl (Nat.le_of_ble_eq_true rfl) dX8_end_2 ⟨by omega, by omega⟩ ⟨by omega, by omega⟩ ?_
  rintro _ _ ⟨rfl, rfl⟩
  refine w_if_ne F (tgt := 10) dX8_end_5 (by decide) (b2i_R _) (fun h => ?_) (fun h => ?_)
  · rw [b2i_n0] at h
    obtain ⟨i, rfl⟩ : ∃ i : Nat, j = (i : Int) := ⟨j.toNat, by omega⟩
    have hi : v.1.testBit i = true := by simpa using h.2.2
    refine w_aload_n F dX8_end_10 rfl rfl ?_
    refine w_aload_n F dX8_end_11 rfl rfl ?_
    refine w_getF F (fM0 _) (by omega) rfl in_X8 (by decide) (Or.inl q872) dX8_end_12 ?_
    refine w_top hb ?_
    refine w_iconst F dX8_end_15 ?_
    refine w_callV F (As := [_, _]) (ct_does hE hm γ (hM.jb hV) (by omega) (by omega)) (lw_V q1101 q1103 qs62 q88 q1104) md_X8_does (by omega) cell_mdO rfl rfl rfl rfl (Nat.le_of_ble_eq_true rfl) dX8_end_16 ⟨by omega, by omega⟩ ⟨by omega, by omega⟩ ?_
    rintro _ g ⟨rfl, h26, o1⟩
    refine w_pop F dX8_end_19 rfl ?_
    refine w_aload_n F dX8_end_20 rfl rfl ?_
    refine w_get F (by omega) cell_mdO rfl in_X8 26 (by decide) (Or.inl q898) rfl dX8_end_21 ?_
    refine w_iload_n F dX8_end_24 rfl ?_
    first | refine w_ialdN F (aM26 _) (by omega) (by decide) (by omega) dX8_end_25 ?_ | refine w_iald F (aM26 _) (by omega) (by decide) (by omega) (by omega) dX8_end_25 ?_
    exact w_iret F (by omega) (by omega) (⟨o1, Or.inr ⟨h, by rw [h26, (sch_val hM hV hb2 (fun _ h => h) 0 (γ 0 26)).2 i hi]; simp [endB]⟩⟩) dX8_end_26
  · rw [b2i_0] at h
    refine w_iconst F dX8_end_8 ?_
    exact w_iret F (by omega) (by omega) (⟨Off0.rf, Or.inl ⟨h, rfl⟩⟩) dX8_end_9
theorem ct_lateM (hE : EOk E) (hm : 438 ≤ E.nk) (γ : GG) {v : VV} (hM : MV (γ 0) v.1 v.2.1 v.2.2) (hV : VOk v) : Ct l yX8_late cX8_late 1 (some .int) E 600 36000 [.ref (E.ad 414)] γ (fun r g => Off0 [26] γ g ∧ r = some (.int (iI (lateB v.2.1 0 v.1 : Int)))) 0 0 := by
  refine Ct.of hE (by decide) (Nat.le_of_ble_eq_true rfl) (fun Φ hLn hΦ F hfr hlo => ?_)
  subst hLn; subst hΦ
  have h414 := F.ok.1.2.2
  have hrc := F.rc
  have hrs := F.rs
  show Wg Φ 1 _ 0 0 0 [(0, _)] []
  refine w_rng (fun hR => ?_)
  have hb : γ 0 0 0 = (v.1 : Int) := hM.1
  refine w_aload_n F dX8_late_0 rfl rfl ?_
  refine w_aload_n F dX8_late_1 rfl rfl ?_
  refine w_getF F (fM0 _) (by omega) rfl in_X8 (by decide) (Or.inl q872) dX8_late_2 ?_
  refine w_top hb ?_
  refine w_iconst F dX8_late_5 ?_
  refine w_callV F (As := [_, _]) (ct_does hE hm γ (hM.jb hV) (by omega) (by omega)) (lw_V q1101 q1103 qs62 q88 q1104) md_X8_does (by omega) cell_mdO rfl rfl rfl rfl (Nat.le_of_ble_eq_true rfl) dX8_late_6 ⟨by omega, by omega⟩ ⟨by omega, by omega⟩ ?_
  rintro _ g ⟨rfl, h26, o1⟩
  exact w_iret F (by omega) (by omega) (⟨o1, by rw [(sch_val hM hV hV.1.1 (fun _ h => h) 0 (γ 0 26)).1]⟩) dX8_late_9
theorem MV.off26 {γ g : GG} {v : VV} (h : MV (γ 0) v.1 v.2.1 v.2.2) (hb : v.1 < 4096) (o : Off0 [26] γ g) : MV (g 0) v.1 v.2.1 v.2.2 := h.cong hb (fun f i hp => by rw [o 0 f (by unfold PK2 at hp; simp; omega)])
theorem ct_moreM (hE : EOk E) (hm : 438 ≤ E.nk) (γ : GG) {v : VV} (hM : MV (γ 0) v.1 v.2.1 v.2.2) (hV : VOk v) : Ct l yX8_more cX8_more 2 (some .int) E 600 36000 [.ref (E.ad 414)] γ (fun r g => Off0 [26] γ g ∧ r = some (.int (iI (mre (fun g => lateB v.2.1 (g : Int) v.1) 100 0)))) 0 0 := by
  refine Ct.of hE (by decide) (Nat.le_of_ble_eq_true rfl) (fun Φ hLn hΦ F hfr hlo => ?_)
  subst hLn; subst hΦ
  have h414 := F.ok.1.2.2
  have hrc := F.rc
  have hrs := F.rs
  show Wg Φ 2 _ 0 0 0 [(0, _)] []
  refine w_rng (fun hR => ?_)
  refine w_iconst F dX8_more_0 ?_
  refine w_istore_n F dX8_more_1 (by decide) rfl (lv' := [(0, _), (1, _)]) rfl ?_
  obtain ⟨tg, htg⟩ : ∃ t, t = mre (fun g => lateB v.2.1 (g : Int) v.1) 100 0 := ⟨_, rfl⟩
  have loop : ∀ (n g : Nat) (γ' : GG), n + g = 100 → Off0 [26] γ γ' → mre (fun g => lateB v.2.1 (g : Int) v.1) n g = tg → Wg Φ 2 γ' 0 0 2 [(0, .ref (Φ.E.ad 414)), (1, .int (iI (g : Int)))] [] := by
    intro n
    induction n with
    | zero =>
      intro g γ' h1 h2 h3
      refine w_iload_n F dX8_more_2 rfl ?_
      refine w_bipush F dX8_more_3 rfl ?_
      refine w_icmp_gt F (tgt := 26) dX8_more_5 (by decide) (by first | assumption | exact inR0 | exact (hR _ _ _).1 | (constructor <;> omega)) (by first | assumption | exact inR0 | exact (hR _ _ _).1 | (constructor <;> omega)) (fun h => ?_) (fun h => ?_)
      · refine w_iload_n F dX8_more_26 rfl ?_
        refine w_bipush F dX8_more_27 rfl ?_
        refine w_icmp_gt F (tgt := 36) dX8_more_29 (by decide) (by first | assumption | exact inR0 | exact (hR _ _ _).1 | (constructor <;> omega)) (by first | assumption | exact inR0 | exact (hR _ _ _).1 | (constructor <;> omega)) (fun h9 => ?_) (fun h9 => ?_)
        · refine w_bipush F dX8_more_36 rfl ?_
          exact w_iret F (by omega) (by omega) (⟨h2, by rw [← htg, ← h3]; rfl⟩) dX8_more_38
        · omega
      · omega
    | succ n ih =>
      intro g γ' h1 h2 h3
      have hM' := hM.off26 hV.1.1 h2
      have h3 : (if lateB v.2.1 (g : Int) v.1 = 0 then (g : Int) else mre (fun g => lateB v.2.1 (g : Int) v.1) n (g + 1)) = tg := h3
      refine w_iload_n F dX8_more_2 rfl ?_
      refine w_bipush F dX8_more_3 rfl ?_
      refine w_icmp_gt F (tgt := 26) dX8_more_5 (by decide) (by first | assumption | exact inR0 | exact (hR _ _ _).1 | (constructor <;> omega)) (by first | assumption | exact inR0 | exact (hR _ _ _).1 | (constructor <;> omega)) (fun h => ?_) (fun h => ?_)
      · omega
      · refine w_aload_n F dX8_more_8 rfl rfl ?_
        refine w_aload_n F dX8_more_9 rfl rfl ?_
        refine w_getF F (fM0 _) (by omega) rfl in_X8 (by decide) (Or.inl q872) dX8_more_10 ?_
        refine w_top hM'.1 ?_
        refine w_iload_n F dX8_more_13 rfl ?_
        refine w_callV F (As := [_, _]) (ct_does hE hm γ' (hM'.jb hV) (later := (g : Int)) (by omega) (by omega)) (lw_V q1101 q1103 qs62 q88 q1104) md_X8_does (by omega) cell_mdO rfl rfl rfl rfl (Nat.le_of_ble_eq_true rfl) dX8_more_14 ⟨by omega, by omega⟩ ⟨by omega, by omega⟩ ?_
        rintro _ g2 ⟨rfl, h26, o1⟩
        rw [(sch_val hM' hV hV.1.1 (fun _ h => h) (g : Int) (γ' 0 26)).1]
        have hlt : lateB v.2.1 (g : Int) v.1 < 4096 := late_lt _ _ _ _ _ (by omega)
        refine w_if_eq F (tgt := 26) dX8_more_17 (by decide) (by first | assumption | exact inR0 | exact (hR _ _ _).1 | (constructor <;> omega)) (fun h5 => ?_) (fun h5 => ?_)
        · rw [if_pos (by omega)] at h3
          refine w_iload_n F dX8_more_26 rfl ?_
          refine w_bipush F dX8_more_27 rfl ?_
          refine w_icmp_gt F (tgt := 36) dX8_more_29 (by decide) (by first | assumption | exact inR0 | exact (hR _ _ _).1 | (constructor <;> omega)) (by first | assumption | exact inR0 | exact (hR _ _ _).1 | (constructor <;> omega)) (fun h9 => ?_) (fun h9 => ?_)
          · omega
          · refine w_iload_n F dX8_more_32 rfl ?_
            refine w_goto F (tgt := 38) dX8_more_33 (by decide) ?_
            exact w_iret F (by omega) (by omega) (⟨h2.tr o1, by rw [← htg, ← h3]⟩) dX8_more_38
        · rw [if_neg (by omega)] at h3
          refine w_iinc F dX8_more_20 rfl (by decide) rfl (lv' := [(0, _), (1, _)]) rfl ?_
          refine w_goto F (tgt := 2) dX8_more_23 (by decide) ?_
          exact ih (g + 1) g2 (by omega) (h2.tr o1) h3
  exact loop 100 0 γ rfl Off0.rf htg.symm
theorem ct_dropM (hE : EOk E) (hm : 438 ≤ E.nk) (γ : GG) {v : VV} (hM : MV (γ 0) v.1 v.2.1 v.2.2) (hV : VOk v) {w : Int} (hw : InR w) : Ct l yX8_drop cX8_drop 6 (some .int) E 600 36000 [.ref (E.ad 414), .int (iI w)] γ (fun r g => Off0 [26] γ g ∧ ((¬ (0 ≤ w ∧ w ≤ 1) ∧ r = some (.int (iI (-1)))) ∨ ((0 ≤ w ∧ w ≤ 1) ∧ cnt v.1 12 = 1 ∧ r = some (.int (iI (-2)))) ∨ ((0 ≤ w ∧ w ≤ 1) ∧ cnt v.1 12 ≠ 1 ∧ r = some (.int (iI (if w = 0 then (drp v.1 (fun j => cnt (lateB v.2.1 0 (wob v.1 j)) 12) 1048576).1 else (drp v.1 (fun j => cnt (lateB v.2.1 0 (wob v.1 j)) 12) 1048576).2)))))) 0 0 := by
  refine Ct.of hE (by decide) (Nat.le_of_ble_eq_true rfl) (fun Φ hLn hΦ F hfr hlo => ?_)
  subst hLn; subst hΦ
  have h414 := F.ok.1.2.2
  have hrc := F.rc
  have hrs := F.rs
  show Wg Φ 6 _ 0 0 0 [(0, _), (1, _)] []
  refine w_rng (fun hR => ?_)
  have hb : γ 0 0 0 = (v.1 : Int) := hM.1
  have hb2 := hV.1.1
  refine w_iload_n F dX8_drop_0 rfl ?_
  refine w_iconst F dX8_drop_1 ?_
  refine w_iconst F dX8_drop_2 ?_
  refine w_callS F (As := [_, _, _]) (ct_in hE γ hw inR0 (by decide)) (lw_S q980 q981 q88 q982) md_X8_in rfl rfl (Nat.le_of_ble_eq_true rfl) dX8_drop_3 ⟨by omega, by omega⟩ ⟨by omega, by omega⟩ ?_
  rintro _ _ ⟨rfl, rfl⟩
  refine w_if_ne F (tgt := 11) dX8_drop_6 (by decide) (b2i_R _) (fun h => ?_) (fun h => ?_)
  · rw [b2i_n0] at h
    refine w_aload_n F dX8_drop_11 rfl rfl ?_
    refine w_callV F (As := []) (ct_many hE hm γ hb hb2) (lw_V q1030 q1032 qs55 q88 q1033) md_X8_many (by omega) cell_mdO rfl rfl rfl rfl (Nat.le_of_ble_eq_true rfl) dX8_drop_12 ⟨by omega, by omega⟩ ⟨by omega, by omega⟩ ?_
    rintro _ _ ⟨rfl, rfl⟩
    have hcl := cnt_le v.1 12
    refine w_iconst F dX8_drop_15 ?_
    refine w_icmp_ne F (tgt := 22) dX8_drop_16 (by decide) (by first | assumption | exact inR0 | exact (hR _ _ _).1 | (constructor <;> omega)) (by first | assumption | exact inR0 | exact (hR _ _ _).1 | (constructor <;> omega)) (fun h1 => ?_) (fun h1 => ?_)
    · obtain ⟨f, hf⟩ : ∃ f : Nat → Nat, f = fun j => cnt (lateB v.2.1 0 (wob v.1 j)) 12 := ⟨_, rfl⟩
      refine w_bipush F dX8_drop_22 rfl ?_
      refine w_istore_n F dX8_drop_24 (by decide) rfl (lv' := [(0, _), (1, _), (2, _)]) rfl ?_
      refine w_ldc F q1105 dX8_drop_25 ?_
      refine w_istore_n F dX8_drop_27 (by decide) rfl (lv' := [(0, _), (1, _), (2, _), (3, _)]) rfl ?_
      refine w_iconst F dX8_drop_28 ?_
      refine w_istore F dX8_drop_29 (by decide) rfl (lv' := [(0, _), (1, _), (2, _), (3, _), (4, _)]) rfl ?_
      have loop : ∀ m j (γ' : GG) (q : Int × Int) (x : Value), j ≤ 12 → 12 - j < m → Off0 [26] γ γ' → (List.range j).foldl (stD v.1 f) (-4, 1048576) = q → -4 ≤ q.1 → q.1 ≤ 11 → 0 ≤ q.2 → q.2 ≤ 1048576 → Wg Φ 6 γ' 0 0 31 [(0, .ref (Φ.E.ad 414)), (1, .int (iI w)), (2, .int (iI q.1)), (3, .int (iI q.2)), (4, .int (iI (j : Int)))] [] := by
        intro m
        induction m with
        | zero => intro j _ _ _ h1 h2; omega
        | succ m ih =>
          intro j γ' q x h2 h3 h4 h5 h6 h7 h8 h9
          have hM' := hM.off26 hb2 h4
          have hb' : γ' 0 0 0 = (v.1 : Int) := hM'.1
          refine w_iload F dX8_drop_31 rfl ?_
          refine w_bipush F dX8_drop_33 rfl ?_
          refine w_icmp_ge F (tgt := 105) dX8_drop_35 (by decide) (by first | assumption | exact inR0 | exact (hR _ _ _).1 | (constructor <;> omega)) (by first | assumption | exact inR0 | exact (hR _ _ _).1 | (constructor <;> omega)) (fun h10 => ?_) (fun h10 => ?_)
          · have hj : j = 12 := by omega
            subst hj
            refine w_iload_n F dX8_drop_105 rfl ?_
            refine w_if_ne F (tgt := 113) dX8_drop_106 (by decide) (by first | assumption | exact inR0 | exact (hR _ _ _).1 | (constructor <;> omega)) (fun h11 => ?_) (fun h11 => ?_)
            · refine w_iload_n F dX8_drop_113 rfl ?_
              exact w_iret F (by omega) (by omega) (⟨h4, Or.inr (Or.inr ⟨h, by omega, by rw [← hf, if_neg h11]; unfold drp; rw [h5]⟩)⟩) dX8_drop_114
            · refine w_iload_n F dX8_drop_109 rfl ?_
              refine w_goto F (tgt := 114) dX8_drop_110 (by decide) ?_
              exact w_iret F (by omega) (by omega) (⟨h4, Or.inr (Or.inr ⟨h, by omega, by rw [← hf, if_pos h11]; unfold drp; rw [h5]⟩)⟩) dX8_drop_114
          · have hs : (List.range (j + 1)).foldl (stD v.1 f) (-4, 1048576) = stD v.1 f q j := by rw [List.range_succ, List.foldl_append, h5]; rfl
            refine w_aload_n F dX8_drop_38 rfl rfl ?_
            refine w_iload F dX8_drop_39 rfl ?_
            refine w_callV F (As := [_]) (ct_isJob hE hm γ' hb' hb2 (j := (j : Int)) (by omega)) (lw_V q976 q978 qs45 q88 q979) md_X8_isJob (by omega) cell_mdO rfl rfl rfl rfl (Nat.le_of_ble_eq_true rfl) dX8_drop_41 ⟨by omega, by omega⟩ ⟨by omega, by omega⟩ ?_
            rintro _ _ ⟨rfl, rfl⟩
            refine w_if_eq F (tgt := 69) dX8_drop_44 (by decide) (b2i_R _) (fun h11 => ?_) (fun h11 => ?_)
            · rw [b2i_0] at h11
              have ht : v.1.testBit j = false := by
                cases e : v.1.testBit j with
                | false => rfl
                | true => exact absurd ⟨by omega, by omega, by simpa using e⟩ h11
              have hs2 : stD v.1 f q j = q := by unfold stD; rw [ht]; simp
              refine w_ldc F q1105 dX8_drop_69 ?_
              refine w_top (z' := 1048576) rfl ?_
              refine w_istore F dX8_drop_71 (by decide) rfl (lv' := [(0, _), (1, _), (2, _), (3, _), (4, _), (5, _)]) rfl ?_
              refine w_iload F dX8_drop_73 rfl ?_
              refine w_iload_n F dX8_drop_75 rfl ?_
              refine w_icmp_ge F (tgt := 84) dX8_drop_76 (by decide) (by first | assumption | exact inR0 | exact (hR _ _ _).1 | (constructor <;> omega)) (by first | assumption | exact inR0 | exact (hR _ _ _).1 | (constructor <;> omega)) (fun h12 => ?_) (fun h12 => ?_)
              · refine w_iload_n F dX8_drop_84 rfl ?_
                refine w_istore_n F dX8_drop_85 (by decide) rfl (lv' := [(0, _), (1, _), (2, _), (3, _), (4, _), (5, _)]) rfl ?_
                refine w_iload F dX8_drop_86 rfl ?_
                refine w_iload_n F dX8_drop_88 rfl ?_
                refine w_icmp_ge F (tgt := 97) dX8_drop_89 (by decide) (by first | assumption | exact inR0 | exact (hR _ _ _).1 | (constructor <;> omega)) (by first | assumption | exact inR0 | exact (hR _ _ _).1 | (constructor <;> omega)) (fun h13 => ?_) (fun h13 => ?_)
                · refine w_iload_n F dX8_drop_97 rfl ?_
                  refine w_istore_n F dX8_drop_98 (by decide) rfl (lv' := [(0, _), (1, _), (2, _), (3, _), (4, _), (5, _)]) rfl ?_
                  refine w_iinc F dX8_drop_99 rfl (by decide) rfl (lv' := [(0, _), (1, _), (2, _), (3, _), (4, _), (5, _)]) rfl ?_
                  refine w_goto F (tgt := 31) dX8_drop_102 (by decide) ?_
                  refine w_keep [0, 1, 2, 3, 4] (lv' := [(0, _), (1, _), (2, _), (3, _), (4, _)]) rfl ?_
                  exact ih (j + 1) γ' q x (by omega) (by omega) h4 (by rw [hs, hs2]) h6 h7 h8 h9
                · omega
              · omega
            · rw [b2i_n0] at h11
              have ht : v.1.testBit j = true := by simpa using h11.2.2
              have hwl : wob v.1 j < 4096 := xor_lt hb2
              have hsub : ∀ i, (wob v.1 j).testBit i = true → v.1.testBit i = true := fun i hi => by
                rw [wob_bit] at hi; simp at hi; exact hi.1
              have hpw : 2 ^ j < 4096 := Nat.pow_lt_pow_right (n := 12) (by decide) (by omega)
              refine w_aload_n F dX8_drop_47 rfl rfl ?_
              refine w_aload_n F dX8_drop_48 rfl rfl ?_
              refine w_getF F (fM0 _) (by omega) rfl in_X8 (by decide) (Or.inl q872) dX8_drop_49 ?_
              refine w_top hb' ?_
              refine w_iconst F dX8_drop_52 ?_
              refine w_iload F dX8_drop_53 rfl ?_
              refine w_ishl1 F (by omega) dX8_drop_55 ?_
              refine w_iconst F dX8_drop_56 ?_
              refine w_inot F dX8_drop_57 ?_
              first | refine w_iandC F (by omega) dX8_drop_58 ?_ | refine w_iand F dX8_drop_58 ?_
              refine w_iconst F dX8_drop_59 ?_
              refine w_callV F (As := [_, _]) (ct_does hE hm γ' (some0 := wob v.1 j) ((hM'.jb hV).sub hwl hsub) (later := 0) (by omega) (by omega)) (lw_V q1101 q1103 qs62 q88 q1104) md_X8_does (by omega) cell_mdO rfl rfl rfl rfl (Nat.le_of_ble_eq_true rfl) dX8_drop_60 ⟨by omega, by omega⟩ ⟨by omega, by omega⟩ ?_
              rintro _ g2 ⟨rfl, h26, o1⟩
              rw [(sch_val hM' hV hwl hsub 0 (γ' 0 26)).1]
              have hlt : lateB v.2.1 0 (wob v.1 j) < 4096 := late_lt _ _ _ _ _ (by omega)
              refine w_callS F (As := [_]) (ct_bits hE g2 hlt) (lw_S q1114 q1115 q88 q1116) md_X8_bits rfl rfl (Nat.le_of_ble_eq_true rfl) dX8_drop_63 ⟨by omega, by omega⟩ ⟨by omega, by omega⟩ ?_
              rintro _ _ ⟨rfl, rfl⟩
              have hfj : cnt (lateB v.2.1 0 (wob v.1 j)) 12 = f j := by rw [hf]
              rw [hfj]
              have hfl : f j ≤ 12 := by rw [← hfj]; exact cnt_le _ 12
              refine w_goto F (tgt := 71) dX8_drop_66 (by decide) ?_
              refine w_istore F dX8_drop_71 (by decide) rfl (lv' := [(0, _), (1, _), (2, _), (3, _), (4, _), (5, _)]) rfl ?_
              refine w_iload F dX8_drop_73 rfl ?_
              refine w_iload_n F dX8_drop_75 rfl ?_
              refine w_icmp_ge F (tgt := 84) dX8_drop_76 (by decide) (by first | assumption | exact inR0 | exact (hR _ _ _).1 | (constructor <;> omega)) (by first | assumption | exact inR0 | exact (hR _ _ _).1 | (constructor <;> omega)) (fun h12 => ?_) (fun h12 => ?_)
              · have hs2 : stD v.1 f q j = q := by unfold stD; rw [if_neg (by omega)]
                refine w_iload_n F dX8_drop_84 rfl ?_
                refine w_istore_n F dX8_drop_85 (by decide) rfl (lv' := [(0, _), (1, _), (2, _), (3, _), (4, _), (5, _)]) rfl ?_
                refine w_iload F dX8_drop_86 rfl ?_
                refine w_iload_n F dX8_drop_88 rfl ?_
                refine w_icmp_ge F (tgt := 97) dX8_drop_89 (by decide) (by first | assumption | exact inR0 | exact (hR _ _ _).1 | (constructor <;> omega)) (by first | assumption | exact inR0 | exact (hR _ _ _).1 | (constructor <;> omega)) (fun h13 => ?_) (fun h13 => ?_)
                · refine w_iload_n F dX8_drop_97 rfl ?_
                  refine w_istore_n F dX8_drop_98 (by decide) rfl (lv' := [(0, _), (1, _), (2, _), (3, _), (4, _), (5, _)]) rfl ?_
                  refine w_iinc F dX8_drop_99 rfl (by decide) rfl (lv' := [(0, _), (1, _), (2, _), (3, _), (4, _), (5, _)]) rfl ?_
                  refine w_goto F (tgt := 31) dX8_drop_102 (by decide) ?_
                  refine w_keep [0, 1, 2, 3, 4] (lv' := [(0, _), (1, _), (2, _), (3, _), (4, _)]) rfl ?_
                  exact ih (j + 1) g2 q x (by omega) (by omega) (h4.tr o1) (by rw [hs, hs2]) h6 h7 h8 h9
                · omega
              · have hs2 : stD v.1 f q j = ((j : Int), (f j : Int)) := by unfold stD; rw [if_pos ⟨ht, by omega⟩]
                refine w_iload F dX8_drop_79 rfl ?_
                refine w_goto F (tgt := 85) dX8_drop_81 (by decide) ?_
                refine w_istore_n F dX8_drop_85 (by decide) rfl (lv' := [(0, _), (1, _), (2, _), (3, _), (4, _), (5, _)]) rfl ?_
                refine w_iload F dX8_drop_86 rfl ?_
                refine w_iload_n F dX8_drop_88 rfl ?_
                refine w_icmp_ge F (tgt := 97) dX8_drop_89 (by decide) (by first | assumption | exact inR0 | exact (hR _ _ _).1 | (constructor <;> omega)) (by first | assumption | exact inR0 | exact (hR _ _ _).1 | (constructor <;> omega)) (fun h13 => ?_) (fun h13 => ?_)
                · omega
                · refine w_iload F dX8_drop_92 rfl ?_
                  refine w_goto F (tgt := 98) dX8_drop_94 (by decide) ?_
                  refine w_istore_n F dX8_drop_98 (by decide) rfl (lv' := [(0, _), (1, _), (2, _), (3, _), (4, _), (5, _)]) rfl ?_
                  refine w_iinc F dX8_drop_99 rfl (by decide) rfl (lv' := [(0, _), (1, _), (2, _), (3, _), (4, _), (5, _)]) rfl ?_
                  refine w_goto F (tgt := 31) dX8_drop_102 (by decide) ?_
                  refine w_keep [0, 1, 2, 3, 4] (lv' := [(0, _), (1, _), (2, _), (3, _), (4, _)]) rfl ?_
                  exact ih (j + 1) g2 ((j : Int), (f j : Int)) x (by omega) (by omega) (h4.tr o1) (by rw [hs, hs2]) (by show (-4 : Int) ≤ (j : Int); omega) (by show (j : Int) ≤ 11; omega) (by show (0 : Int) ≤ (f j : Int); omega) (by show (f j : Int) ≤ 1048576; omega)
      exact loop 13 0 γ (-4, 1048576) (.int 0) (by omega) (by omega) Off0.rf rfl (by decide) (by decide) (by decide) (by decide)
    · refine w_bipush F dX8_drop_19 rfl ?_
      exact w_iret F (by omega) (by omega) (⟨Off0.rf, Or.inr (Or.inl ⟨h, by omega, rfl⟩)⟩) dX8_drop_21
  · rw [b2i_0] at h
    refine w_iconst F dX8_drop_9 ?_
    exact w_iret F (by omega) (by omega) (⟨Off0.rf, Or.inl ⟨h, rfl⟩⟩) dX8_drop_10
end M22
