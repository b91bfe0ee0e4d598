/-! the model: fault, lay -/
abbrev Q4 : Type := Int × Int × Int × Int
def rq (cs : List Int) (p : Nat) : Q4 := (rjV cs p 0, rjV cs p 1, rjV cs p 2, rjV cs p 3)
/-- reading jobs from p on, m are read: where the first fault is (-4: none), the jobs that are read -/
def flt (cs : List Int) : Nat → Nat → Nat → Int × List Q4
  | 0, _, _ => (-4, [])
  | n + 1, p, m => if p < cs.length then (if rjOk cs p m then ((flt cs n (rjP cs p 4) (m + 1)).1, rq cs p :: (flt cs n (rjP cs p 4) (m + 1)).2) else ((p : Int), [])) else (-4, [])
def tld (q : Q4) : Prop := told q.1 q.2.1 q.2.2.1 q.2.2.2
theorem rq_told {cs : List Int} {p m : Nat} (h : rjOk cs p m) : tld (rq cs p) := by
  have h0 := (h.2.2 0 (by omega)).2.2
  have h1 := (h.2.2 1 (by omega)).2.2
  have h2 := (h.2.2 2 (by omega)).2.2
  have h3 := (h.2.2 3 (by omega)).2.2
  exact ⟨h0, h1, h2, h3⟩
theorem flt_told (cs : List Int) : ∀ n p m, ∀ q ∈ (flt cs n p m).2, tld q
  | 0, _, _ => by simp [flt]
  | n + 1, p, m => by
    intro q hq
    unfold flt at hq
    split at hq
    · split at hq
      · rename_i _ h
        rcases List.mem_cons.mp hq with e | e
        · rw [e]; exact rq_told h
        · exact flt_told cs n _ _ q e
      · simp at hq
    · simp at hq
theorem flt_len (cs : List Int) : ∀ n p m, m ≤ 12 → (flt cs n p m).2.length + m ≤ 12
  | 0, _, _ => by simp [flt]
  | n + 1, p, m => by
    intro hm
    unfold flt
    split
    · split
      · rename_i _ h
        have h1 : m ≠ 12 := h.2.1
        have := flt_len cs n (rjP cs p 4) (m + 1) (by omega)
        simp only [List.length_cons]
        omega
      · simpa using hm
    · simpa using hm
theorem flt_R (cs : List Int) (hl : cs.length ≤ 200) : ∀ n p m, -4 ≤ (flt cs n p m).1 ∧ (flt cs n p m).1 ≤ 200
  | 0, _, _ => by simp [flt]
  | n + 1, p, m => by
    unfold flt
    split
    · split
      · exact flt_R cs hl n _ _
      · dsimp only; omega
    · simp
def RJ (A : Nat → Int) (L : List Q4) : Prop := ∀ i q, L[i]? = some q → A (4 * i + 0) = q.1 ∧ A (4 * i + 1) = q.2.1 ∧ A (4 * i + 2) = q.2.2.1 ∧ A (4 * i + 3) = q.2.2.2
section M30
variable {l : Launch} {E : EE}
theorem ct_faultM (hE : EOk E) (hm : 438 ≤ E.nk) (γ : GG) {cs : List Int} (hT : TXT (γ 0) cs) : Ct l yX8_fault cX8_fault 2 (some .int) E 600 36000 [.ref (E.ad 414)] γ (fun r g => Off0 [29, 30, 31, 32] γ g ∧ r = some (.int (iI (flt cs 13 0 0).1)) ∧ ((flt cs 13 0 0).1 = -4 → g 0 30 0 = ((flt cs 13 0 0).2.length : Int) ∧ RJ (g 0 32) (flt cs 13 0 0).2)) 0 0 := by
  refine Ct.of hE (by decide) (Nat.le_of_ble_eq_true rfl) (fun Φ hLn hΦ F hfr hlo => ?_)
  subst hLn; subst hΦ
  have h414 := F.ok.1.2.2
  have hrc := F.rc
  have hrs := F.rs
  show Wg Φ 2 _ 0 0 0 [(0, _)] []
  refine w_rng (fun hR => ?_)
  have hlen := hT.2.1
  have hFR := flt_R cs hlen 13 0 0
  obtain ⟨tg, htg⟩ : ∃ t, t = flt cs 13 0 0 := ⟨_, rfl⟩
  refine w_aload_n F dX8_fault_0 rfl rfl ?_
  refine w_iconst F dX8_fault_1 ?_
  refine w_putF F (fM29 _) (by omega) rfl in_X8 tyX8 tyX8_ok nmX8 (by decide) (Or.inl q901) rfl rfl rfl (by first | assumption | exact inR0 | exact (hR _ _ _).1 | (constructor <;> omega)) (fun h => by cases h) (fun h => by cases h) dX8_fault_2 ?_
  refine w_aload_n F dX8_fault_5 rfl rfl ?_
  refine w_iconst F dX8_fault_6 ?_
  refine w_putF F (fM30 _) (by omega) rfl in_X8 tyX8 tyX8_ok nmX8 (by decide) (Or.inl q902) rfl rfl rfl (by first | assumption | exact inR0 | exact (hR _ _ _).1 | (constructor <;> omega)) (fun h => by cases h) (fun h => by cases h) dX8_fault_7 ?_
  have loop : ∀ (n p m : Nat) (g : GG) (L : List Q4), m ≤ 12 → 12 - m < n → p ≤ 200 → g 0 29 0 = (p : Int) → g 0 30 0 = (m : Int) → L.length = m → RJ (g 0 32) L → Off0 [29, 30, 31, 32] γ g → tg.1 = (flt cs n p m).1 → tg.2 = L ++ (flt cs n p m).2 → Wg Φ 2 g 0 0 10 [(0, .ref (Φ.E.ad 414))] [] := by
    intro n
    induction n with
    | zero => intro p m g L a1 a2; omega
    | succ n ih =>
      intro p m g L a1 a2 a3 a4 a5 a6 a7 a8 a9 a10
      have hTg := hT.off a8 rfl
      refine w_aload_n F dX8_fault_10 rfl rfl ?_
      refine w_getF F (fM29 _) (by omega) rfl in_X8 (by decide) (Or.inl q901) dX8_fault_11 ?_
      refine w_top a4 ?_
      refine w_aload_n F dX8_fault_14 rfl rfl ?_
      refine w_getF F (fM28 _) (by omega) rfl in_X8 (by decide) (Or.inl q900) dX8_fault_15 ?_
      refine w_top hTg.1 ?_
      refine w_icmp_ge F (tgt := 38) dX8_fault_18 (by decide) (by first | assumption | exact inR0 | exact (hR _ _ _).1 | (constructor <;> omega)) (by first | assumption | exact inR0 | exact (hR _ _ _).1 | (constructor <;> omega)) (fun h => ?_) (fun h => ?_)
      · refine w_bipush F dX8_fault_38 rfl ?_
        unfold flt at a9 a10
        rw [if_neg (by omega)] at a9 a10
        have e1 : (flt cs 13 0 0).1 = -4 := by rw [← htg]; exact a9
        have e2 : (flt cs 13 0 0).2 = L := by rw [← htg, a10]; simp
        exact w_iret F (by omega) (by omega) (⟨a8, by rw [e1], fun _ => ⟨by rw [e2, a6]; exact a5, by rw [e2]; exact a7⟩⟩) dX8_fault_40
      · unfold flt at a9 a10
        rw [if_pos (by omega)] at a9 a10
        refine w_aload_n F dX8_fault_21 rfl rfl ?_
        refine w_getF F (fM29 _) (by omega) rfl in_X8 (by decide) (Or.inl q901) dX8_fault_22 ?_
        refine w_top a4 ?_
        refine w_istore_n F dX8_fault_25 (by decide) rfl (lv' := [(0, _), (1, _)]) rfl ?_
        refine w_aload_n F dX8_fault_26 rfl rfl ?_
        refine w_callV F (As := []) (ct_readsJob hE hm g hTg a4 a3 a5 a1) (lw_V q1152 q1154 qs65 q88 q1155) md_X8_readsJob (by omega) cell_mdO rfl rfl rfl rfl (Nat.le_of_ble_eq_true rfl) dX8_fault_27 ⟨by omega, by omega⟩ ⟨by omega, by omega⟩ ?_
        rintro _ g2 ⟨o2, (⟨n1, rfl, n3, n4, n5, n6, n7⟩ | ⟨n1, rfl⟩)⟩
        · rw [if_pos n1] at a9 a10
          refine w_if_ne F (tgt := 35) dX8_fault_30 (by decide) (by first | assumption | exact inR0 | exact (hR _ _ _).1 | (constructor <;> omega)) (fun h2 => ?_) (fun h2 => ?_)
          · refine w_goto F (tgt := 10) dX8_fault_35 (by decide) ?_
            refine w_keep [0] (lv' := [(0, _)]) rfl ?_
            have hne := n1.2.1
            refine ih (rjP cs p 4) (m + 1) g2 (L ++ [rq cs p]) (by omega) (by omega) n4 n3 (by omega) (by simp [a6]) ?_ (a8.tr o2) a9 (by rw [a10]; simp)
            intro i q hq
            by_cases e : i < L.length
            · rw [List.getElem?_append_left e] at hq
              have := a7 i q hq
              rw [n7 _ (by omega), n7 _ (by omega), n7 _ (by omega), n7 _ (by omega)]
              exact this
            · have e2 := (List.getElem?_eq_some_iff.mp hq).1
              simp at e2
              have e3 : i = m := by omega
              subst e3
              rw [← a6] at hq
              simp at hq
              rw [← hq]
              exact ⟨n6 0 (by omega), n6 1 (by omega), n6 2 (by omega), n6 3 (by omega)⟩
          · omega
        · rw [if_neg n1] at a9 a10
          refine w_if_ne F (tgt := 35) dX8_fault_30 (by decide) (by first | assumption | exact inR0 | exact (hR _ _ _).1 | (constructor <;> omega)) (fun h2 => ?_) (fun h2 => ?_)
          · omega
          · refine w_iload_n F dX8_fault_33 rfl ?_
            have e1 : (flt cs 13 0 0).1 = (p : Int) := by rw [← htg]; exact a9
            exact w_iret F (by omega) (by omega) (⟨a8.tr o2, by rw [e1], fun w => by omega⟩) dX8_fault_34
  exact loop 13 0 0 _ [] (by omega) (by omega) (by omega) (by rw [gu_f (by decide)]; exact gu_s _ _ _ _ _) (gu_s _ _ _ _ _) rfl (by intro i q hq; simp at hq) ((Off0.rf.up (by decide)).up (by decide)) (by rw [htg]) (by rw [htg]; rfl)
end M30
