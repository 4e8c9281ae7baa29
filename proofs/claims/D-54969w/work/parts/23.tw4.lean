/-! THE TWIN, part 4: the small calls on the tree -/
set_option maxRecDepth 100000
section Tw4
variable {G : Gv} {ρ : Hp → Heap → Prop} {f : Nat} {K : Value → Tw → Prop} {m : Nat} {A : Nat → Nat} {t : Tw}

def elb (t : Tw) (x : Int32) : Bool := decide (0 ≤ x ∧ x ≤ 15) && !decide (t 0 x.toNatClampNeg = 0)
theorem elb_iff {x : Int32} : elb t x = true ↔ isEl t x := by
  unfold elb isEl
  rw [Bool.and_eq_true, decide_eq_true_iff, Bool.not_eq_true', decide_eq_false_iff_not]
theorem elb_nI {e : Nat} (he : e < 16) : elb t (nI e) = true ↔ ¬ t 0 e = 0 := by
  rw [elb_iff]
  unfold isEl
  rw [nI_cl (by omega)]
  refine ⟨fun h => h.2, fun h => ⟨⟨nI_pos' (by omega), ?_⟩, h⟩⟩
  have e15 : (15 : Int32) = nI 15 := by decide
  rw [e15]
  exact nI_le (by omega) (by omega)
theorem el_of (hW : WT t) {x : Int32} (h : elb t x = true) : ∃ e, e < 16 ∧ x = nI e ∧ hr t e := by
  obtain ⟨e, he, rfl⟩ := isEl_of (elb_iff.mp h).1
  refine ⟨e, he, rfl, ?_⟩
  rcases hW.1 e he with q | q
  · exact absurd q ((elb_nI he).mp h)
  · exact q
theorem el_is {e : Nat} (he : e < 16) (hh : hr t e) : elb t (nI e) = true := (elb_nI he).mpr (by rw [show t 0 e = 1 from hh]; decide)
theorem T_isElB (hZ : Bz G) (hρ : Good G ρ) (hf : 1 ≤ f) (x : Int32) (hK : K (.int (if elb t x = true then 1 else 0)) t) : ClT G ρ mX6_isElement f [.ref m, .int x] K m A t := by
  letI := Classical.propDecidable (isEl t x)
  refine T_isElement hZ hρ hf x ?_
  by_cases h : isEl t x
  · rw [if_pos h]
    rw [if_pos (elb_iff.mpr h)] at hK
    exact hK
  · rw [if_neg h]
    rw [if_neg (fun q => h (elb_iff.mp q))] at hK
    exact hK
theorem T_can0 (hZ : Bz G) (hρ : Good G ρ) (hK : K (.int 1) (tu t 81 0 (nI 0))) : ClT G ρ mX6_can f [.ref m, .int (nI 0)] K m A t := T_can hZ hρ _ hK
theorem T_canF (hZ : Bz G) (hρ : Good G ρ) {x : Int32} (hx : ¬ x = 0) (hK : K (.int 0) (tu t 81 0 x)) : ClT G ρ mX6_can f [.ref m, .int x] K m A t := T_can hZ hρ _ (by rw [if_neg hx]; exact hK)
/-- behind changes(0); behind changes(x), x a fault -/
def ch0 (t : Tw) : Tw := tu (tu t 48 0 0) 81 0 (nI 0)
def chX (t : Tw) (x : Int32) : Tw := chg t x
theorem T_changes0 (hZ : Bz G) (hρ : Good G ρ) (hf : 1 ≤ f) (hK : K (.int 1) (ch0 t)) : ClT G ρ mX6_changes f [.ref m, .int (nI 0)] K m A t := by
  refine T_changes hZ hρ hf _ ?_
  rw [if_pos (by decide), chg, chF_b (by decide)]
  exact hK
theorem T_changesF (hZ : Bz G) (hρ : Good G ρ) (hf : 1 ≤ f) {x : Int32} (hx : ¬ x = 0) (hK : K (.int 0) (chX t x)) : ClT G ρ mX6_changes f [.ref m, .int x] K m A t := by
  refine T_changes hZ hρ hf _ ?_
  rw [if_neg hx]
  exact hK
theorem ch0_d {k i : Nat} (h1 : k ≠ 48) (h2 : k ≠ 81) : ch0 t k i = t k i := by rw [ch0, tu_nk _ _ h2, tu_nk _ _ h1]
theorem isIn_of {x b : Int32} {n : Nat} (hb : b = nI n) (hn : n < 4096) (h : (nI 0 : Int32) ≤ x ∧ x ≤ b) : ∃ e, e ≤ n ∧ x = nI e := by
  subst hb
  obtain ⟨j, h1, h2⟩ := nI_of2 (x := x) (M := nI n) (n := n) (nI_toInt (by omega)) (by rw [show (0 : Int32) = nI 0 by decide]; exact Int32.not_lt.mpr h.1) h.2
  exact ⟨j, h1, h2⟩
theorem isIn_is {a n : Nat} (h : a ≤ n) (hn : n < 4096) : (nI 0 : Int32) ≤ nI a ∧ (nI a : Int32) ≤ nI n := ⟨nI_le (by omega) (by omega), nI_le h (by omega)⟩
theorem T_parentOf (hZ : Bz G) (hρ : Good G ρ) (hW : WT t) (hf : 4 ≤ f) (x : Int32) (h1 : ¬ elb t x = true → K (.int (nI 0)) (tu t 81 0 (nI 1))) (h0 : ∀ e, e < 16 → x = nI e → hr t e → K (.int (t 1 e)) (tu t 81 0 (nI 0))) : ClT G ρ mX6_parentOf f [.ref m, .int x] K m A t := by
  refine ClT.of (lo0 := [some (.ref m), some (.int x)]) (by decide) (by simp [Value.category]) (Nat.le_of_ble_eq_true rfl) rfl ?_
  refine tw_aload_n dX6_parentOf_0 rfl rfl rfl ?_
  refine tw_aload_n dX6_parentOf_1 rfl rfl rfl ?_
  refine tw_iload_n dX6_parentOf_2 rfl rfl ?_
  refine tw_callV (M := mX6_parentOf) (N := mX6_isElement) (f' := f - 1) (As := [_]) hZ hρ kX6_isElement rfl q2527 dX6_parentOf_3 rfl (by first | exact Nat.le_of_ble_eq_true rfl | simp [Value.category]) rfl (by omega) rfl (T_isElB hZ hρ (by omega) _ ?_)
  refine tw_if_eqB (tgt := 13) dX6_parentOf_6 (by decide) (fun c6 => ?_) (fun c6 => ?_)
  · refine tw_iconst (v := nI 1) dX6_parentOf_13 (by decide) ?_
    refine tw_callV (M := mX6_parentOf) (N := mX6_can) (f' := f - 1) (As := [_]) hZ hρ kX6_can rfl q2542 dX6_parentOf_14 rfl (by first | exact Nat.le_of_ble_eq_true rfl | simp [Value.category]) rfl (by omega) rfl (T_canF hZ hρ (by decide) ?_)
    refine tw_if_eq (tgt := 29) dX6_parentOf_17 (by decide) (fun c17 => ?_) (fun c17 => absurd c17 (by decide))
    refine tw_iconst (v := nI 0) dX6_parentOf_29 (by decide) ?_
    refine tw_ireturn rfl rfl dX6_parentOf_30 ?_
    first | exact h0 e he rfl hh | exact h1 c6
  · obtain ⟨e, he, rfl, hh⟩ := el_of hW c6
    refine tw_iconst (v := nI 0) dX6_parentOf_9 (by decide) ?_
    refine tw_goto (tgt := 14) dX6_parentOf_10 (by decide) ?_
    refine tw_callV (M := mX6_parentOf) (N := mX6_can) (f' := f - 1) (As := [_]) hZ hρ kX6_can rfl q2542 dX6_parentOf_14 rfl (by first | exact Nat.le_of_ble_eq_true rfl | simp [Value.category]) rfl (by omega) rfl (T_can0 hZ hρ ?_)
    refine tw_if_eq (tgt := 29) dX6_parentOf_17 (by decide) (fun c17 => absurd c17 (by decide)) (fun c17 => ?_)
    refine tw_aload_n dX6_parentOf_20 rfl rfl rfl ?_
    refine tw_geta (k := 1) hZ hρ (by decide) rfl q2272 dX6_parentOf_21 ?_
    refine tw_iload_n dX6_parentOf_24 rfl rfl ?_
    refine tw_iald (k := 1) hZ hρ (by decide) (by show _ < 16; omega) dX6_parentOf_25 ?_
    repeat rw [tu_nk _ _ (by decide)]
    refine tw_goto (tgt := 30) dX6_parentOf_26 (by decide) ?_
    refine tw_ireturn rfl rfl dX6_parentOf_30 ?_
    first | exact h0 e he rfl hh | exact h1 c6
theorem T_children (hZ : Bz G) (hρ : Good G ρ) (hW : WT t) (hf : 4 ≤ f) (x : Int32) (h1 : ¬ elb t x = true → K (.int (nI 0)) (tu t 81 0 (nI 1))) (h0 : ∀ e, e < 16 → x = nI e → hr t e → K (.int (t 2 e)) (tu t 81 0 (nI 0))) : ClT G ρ mX6_children f [.ref m, .int x] K m A t := by
  refine ClT.of (lo0 := [some (.ref m), some (.int x)]) (by decide) (by simp [Value.category]) (Nat.le_of_ble_eq_true rfl) rfl ?_
  refine tw_aload_n dX6_children_0 rfl rfl rfl ?_
  refine tw_aload_n dX6_children_1 rfl rfl rfl ?_
  refine tw_iload_n dX6_children_2 rfl rfl ?_
  refine tw_callV (M := mX6_children) (N := mX6_isElement) (f' := f - 1) (As := [_]) hZ hρ kX6_isElement rfl q2527 dX6_children_3 rfl (by first | exact Nat.le_of_ble_eq_true rfl | simp [Value.category]) rfl (by omega) rfl (T_isElB hZ hρ (by omega) _ ?_)
  refine tw_if_eqB (tgt := 13) dX6_children_6 (by decide) (fun c6 => ?_) (fun c6 => ?_)
  · refine tw_iconst (v := nI 1) dX6_children_13 (by decide) ?_
    refine tw_callV (M := mX6_children) (N := mX6_can) (f' := f - 1) (As := [_]) hZ hρ kX6_can rfl q2542 dX6_children_14 rfl (by first | exact Nat.le_of_ble_eq_true rfl | simp [Value.category]) rfl (by omega) rfl (T_canF hZ hρ (by decide) ?_)
    refine tw_if_eq (tgt := 29) dX6_children_17 (by decide) (fun c17 => ?_) (fun c17 => absurd c17 (by decide))
    refine tw_iconst (v := nI 0) dX6_children_29 (by decide) ?_
    refine tw_ireturn rfl rfl dX6_children_30 ?_
    first | exact h0 e he rfl hh | exact h1 c6
  · obtain ⟨e, he, rfl, hh⟩ := el_of hW c6
    refine tw_iconst (v := nI 0) dX6_children_9 (by decide) ?_
    refine tw_goto (tgt := 14) dX6_children_10 (by decide) ?_
    refine tw_callV (M := mX6_children) (N := mX6_can) (f' := f - 1) (As := [_]) hZ hρ kX6_can rfl q2542 dX6_children_14 rfl (by first | exact Nat.le_of_ble_eq_true rfl | simp [Value.category]) rfl (by omega) rfl (T_can0 hZ hρ ?_)
    refine tw_if_eq (tgt := 29) dX6_children_17 (by decide) (fun c17 => absurd c17 (by decide)) (fun c17 => ?_)
    refine tw_aload_n dX6_children_20 rfl rfl rfl ?_
    refine tw_geta (k := 2) hZ hρ (by decide) rfl q2273 dX6_children_21 ?_
    refine tw_iload_n dX6_children_24 rfl rfl ?_
    refine tw_iald (k := 2) hZ hρ (by decide) (by show _ < 16; omega) dX6_children_25 ?_
    repeat rw [tu_nk _ _ (by decide)]
    refine tw_goto (tgt := 30) dX6_children_26 (by decide) ?_
    refine tw_ireturn rfl rfl dX6_children_30 ?_
    first | exact h0 e he rfl hh | exact h1 c6
theorem T_childAt (hZ : Bz G) (hρ : Good G ρ) (hW : WT t) (hf : 4 ≤ f) (x y : Int32) (h1 : ¬ elb t x = true → K (.int (nI 0)) (tu t 81 0 (nI 1))) (h1b : ∀ e, e < 16 → x = nI e → hr t e → (∀ q, q < mn t e → y ≠ nI q) → K (.int (nI 0)) (tu t 81 0 (nI 1))) (h0 : ∀ e q, e < 16 → x = nI e → hr t e → q < mn t e → y = nI q → K (.int (t 3 (16 * e + q))) (tu t 81 0 (nI 0))) : ClT G ρ mX6_childAt f [.ref m, .int x, .int y] K m A t := by
  refine ClT.of (lo0 := [some (.ref m), some (.int x), some (.int y), none]) (by decide) (by simp [Value.category]) (Nat.le_of_ble_eq_true rfl) rfl ?_
  refine tw_aload_n dX6_childAt_0 rfl rfl rfl ?_
  refine tw_iload_n dX6_childAt_1 rfl rfl ?_
  refine tw_callV (M := mX6_childAt) (N := mX6_isElement) (f' := f - 1) (As := [_]) hZ hρ kX6_isElement rfl q2527 dX6_childAt_2 rfl (by first | exact Nat.le_of_ble_eq_true rfl | simp [Value.category]) rfl (by omega) rfl (T_isElB hZ hρ (by omega) _ ?_)
  refine tw_if_eqB (tgt := 28) dX6_childAt_5 (by decide) (fun c5 => ?_) (fun c5 => ?_)
  · refine tw_iconst (v := nI 0) dX6_childAt_28 (by decide) ?_
    refine tw_istore_n (lo' := [_, _, _, _]) dX6_childAt_29 rfl (by decide) rfl ?_
    refine tw_aload_n dX6_childAt_30 rfl rfl rfl ?_
    refine tw_iload_n dX6_childAt_31 rfl rfl ?_
    refine tw_if_eq (tgt := 39) dX6_childAt_32 (by decide) (fun c32 => ?_) (fun c32 => absurd c32 (by decide))
    refine tw_iconst (v := nI 1) dX6_childAt_39 (by decide) ?_
    refine tw_callV (M := mX6_childAt) (N := mX6_can) (f' := f - 1) (As := [_]) hZ hρ kX6_can rfl q2542 dX6_childAt_40 rfl (by first | exact Nat.le_of_ble_eq_true rfl | simp [Value.category]) rfl (by omega) rfl (T_canF hZ hρ (by decide) ?_)
    refine tw_if_eq (tgt := 60) dX6_childAt_43 (by decide) (fun c43 => ?_) (fun c43 => absurd c43 (by decide))
    refine tw_iconst (v := nI 0) dX6_childAt_60 (by decide) ?_
    refine tw_ireturn rfl rfl dX6_childAt_61 ?_
    first | exact h1 c5 | exact h1b e he rfl hh (fun q hq e2 => c21 (by rw [m2, pk_sub (by omega), e2]; exact isIn_is (by omega) (by omega)))
  · obtain ⟨e, he, rfl, hh⟩ := el_of hW c5
    obtain ⟨m1, m2, -⟩ := hW.2.2.2.2.1 e he hh
    refine tw_iload_n dX6_childAt_8 rfl rfl ?_
    refine tw_iconst (v := nI 0) dX6_childAt_9 (by decide) ?_
    refine tw_aload_n dX6_childAt_10 rfl rfl rfl ?_
    refine tw_geta (k := 2) hZ hρ (by decide) rfl q2273 dX6_childAt_11 ?_
    refine tw_iload_n dX6_childAt_14 rfl rfl ?_
    refine tw_iald (k := 2) hZ hρ (by decide) (by show _ < 16; omega) dX6_childAt_15 ?_
    refine tw_iconst (v := nI 1) dX6_childAt_16 (by decide) ?_
    refine tw_isub dX6_childAt_17 ?_
    refine tw_callS (M := mX6_childAt) (N := mX6_isIn) (f' := f - 1) (As := [_, _, _]) kX6_isIn q2531 dX6_childAt_18 rfl (by first | exact Nat.le_of_ble_eq_true rfl | simp [Value.category]) rfl (by omega) rfl (T_isIn _ _ _ ?_)
    refine tw_if_eqB (tgt := 28) dX6_childAt_21 (by decide) (fun c21 => ?_) (fun c21 => ?_)
    · refine tw_iconst (v := nI 0) dX6_childAt_28 (by decide) ?_
      refine tw_istore_n (lo' := [_, _, _, _]) dX6_childAt_29 rfl (by decide) rfl ?_
      refine tw_aload_n dX6_childAt_30 rfl rfl rfl ?_
      refine tw_iload_n dX6_childAt_31 rfl rfl ?_
      refine tw_if_eq (tgt := 39) dX6_childAt_32 (by decide) (fun c32 => ?_) (fun c32 => absurd c32 (by decide))
      refine tw_iconst (v := nI 1) dX6_childAt_39 (by decide) ?_
      refine tw_callV (M := mX6_childAt) (N := mX6_can) (f' := f - 1) (As := [_]) hZ hρ kX6_can rfl q2542 dX6_childAt_40 rfl (by first | exact Nat.le_of_ble_eq_true rfl | simp [Value.category]) rfl (by omega) rfl (T_canF hZ hρ (by decide) ?_)
      refine tw_if_eq (tgt := 60) dX6_childAt_43 (by decide) (fun c43 => ?_) (fun c43 => absurd c43 (by decide))
      refine tw_iconst (v := nI 0) dX6_childAt_60 (by decide) ?_
      refine tw_ireturn rfl rfl dX6_childAt_61 ?_
      first | exact h1 c5 | exact h1b e he rfl hh (fun q hq e2 => c21 (by rw [m2, pk_sub (by omega), e2]; exact isIn_is (by omega) (by omega)))
    · have c21b := c21
      rw [m2] at c21b
      refine tw_iconst (v := nI 1) dX6_childAt_24 (by decide) ?_
      refine tw_goto (tgt := 29) dX6_childAt_25 (by decide) ?_
      refine tw_istore_n (lo' := [_, _, _, _]) dX6_childAt_29 rfl (by decide) rfl ?_
      refine tw_aload_n dX6_childAt_30 rfl rfl rfl ?_
      refine tw_iload_n dX6_childAt_31 rfl rfl ?_
      refine tw_if_eq (tgt := 39) dX6_childAt_32 (by decide) (fun c32 => absurd c32 (by decide)) (fun c32 => ?_)
      refine tw_iconst (v := nI 0) dX6_childAt_35 (by decide) ?_
      refine tw_goto (tgt := 40) dX6_childAt_36 (by decide) ?_
      refine tw_callV (M := mX6_childAt) (N := mX6_can) (f' := f - 1) (As := [_]) hZ hρ kX6_can rfl q2542 dX6_childAt_40 rfl (by first | exact Nat.le_of_ble_eq_true rfl | simp [Value.category]) rfl (by omega) rfl (T_can0 hZ hρ ?_)
      refine tw_if_eq (tgt := 60) dX6_childAt_43 (by decide) (fun c43 => absurd c43 (by decide)) (fun c43 => ?_)
      have hq : ∃ q, q < mn t e ∧ y = nI q := by
        by_cases h0 : mn t e = 0
        · rw [h0] at c21b
          exact absurd (Int32.le_trans c21b.1 c21b.2) (by decide)
        · obtain ⟨q, q1, q2⟩ := isIn_of (n := mn t e - 1) (by rw [show (nI 1 : Int32) = nI 1 from rfl, pk_sub (by omega)]) (by omega) c21b
          exact ⟨q, by omega, q2⟩
      obtain ⟨q, hq, rfl⟩ := hq
      refine tw_aload_n dX6_childAt_46 rfl rfl rfl ?_
      refine tw_geta (k := 3) hZ hρ (by decide) rfl q2274 dX6_childAt_47 ?_
      refine tw_bipush (v := nI 16) dX6_childAt_50 (by decide) ?_
      refine tw_iload_n dX6_childAt_52 rfl rfl ?_
      refine tw_imulN dX6_childAt_53 ?_
      refine tw_iload_n dX6_childAt_54 rfl rfl ?_
      refine tw_iaddN dX6_childAt_55 ?_
      refine tw_iald (k := 3) hZ hρ (by decide) (by show _ < 256; omega) dX6_childAt_56 ?_
      repeat rw [tu_nk _ _ (by decide)]
      refine tw_goto (tgt := 61) dX6_childAt_57 (by decide) ?_
      refine tw_ireturn rfl rfl dX6_childAt_61 ?_
      exact h0 e q he rfl hh hq rfl
theorem T_setKey (hZ : Bz G) (hρ : Good G ρ) (hW : WT t) (hf : 4 ≤ f) (x y : Int32) (h1 : ¬ elb t x = true → K (.int (nI 0)) (chX t (nI 1))) (h2 : ∀ e, e < 16 → x = nI e → hr t e → ¬ ((-1) ≤ y ∧ y ≤ nI 15) → K (.int (nI 0)) (chX t (nI 2))) (h0 : ∀ e, e < 16 → x = nI e → hr t e → (-1) ≤ y ∧ y ≤ nI 15 → K (.int (t 5 e)) (tu (ch0 t) 5 e y)) : ClT G ρ mX6_setKey f [.ref m, .int x, .int y] K m A t := by
  refine ClT.of (lo0 := [some (.ref m), some (.int x), some (.int y), none]) (by decide) (by simp [Value.category]) (Nat.le_of_ble_eq_true rfl) rfl ?_
  refine tw_aload_n dX6_setKey_0 rfl rfl rfl ?_
  refine tw_aload_n dX6_setKey_1 rfl rfl rfl ?_
  refine tw_iload_n dX6_setKey_2 rfl rfl ?_
  refine tw_callV (M := mX6_setKey) (N := mX6_isElement) (f' := f - 1) (As := [_]) hZ hρ kX6_isElement rfl q2527 dX6_setKey_3 rfl (by first | exact Nat.le_of_ble_eq_true rfl | simp [Value.category]) rfl (by omega) rfl (T_isElB hZ hρ (by omega) _ ?_)
  refine tw_if_neB (tgt := 13) dX6_setKey_6 (by decide) (fun c6 => ?_) (fun c6 => ?_)
  · obtain ⟨e, he, rfl, hh⟩ := el_of hW c6
    refine tw_iload_n dX6_setKey_13 rfl rfl ?_
    refine tw_iconst (v := (-1)) dX6_setKey_14 (by decide) ?_
    refine tw_bipush (v := nI 15) dX6_setKey_15 (by decide) ?_
    refine tw_callS (M := mX6_setKey) (N := mX6_isIn) (f' := f - 1) (As := [_, _, _]) kX6_isIn q2531 dX6_setKey_17 rfl (by first | exact Nat.le_of_ble_eq_true rfl | simp [Value.category]) rfl (by omega) rfl (T_isIn _ _ _ ?_)
    refine tw_if_eqB (tgt := 27) dX6_setKey_20 (by decide) (fun c20 => ?_) (fun c20 => ?_)
    · refine tw_iconst (v := nI 2) dX6_setKey_27 (by decide) ?_
      refine tw_callV (M := mX6_setKey) (N := mX6_changes) (f' := f - 1) (As := [_]) hZ hρ kX6_changes rfl q2538 dX6_setKey_28 rfl (by first | exact Nat.le_of_ble_eq_true rfl | simp [Value.category]) rfl (by omega) rfl (T_changesF hZ hρ (by omega) (by decide) ?_)
      refine tw_if_ne (tgt := 36) dX6_setKey_31 (by decide) (fun c31 => absurd c31 (by decide)) (fun c31 => ?_)
      refine tw_iconst (v := nI 0) dX6_setKey_34 (by decide) ?_
      refine tw_ireturn rfl rfl dX6_setKey_35 ?_
      first | exact h0 e he rfl hh c20 | exact h2 e he rfl hh c20 | exact h1 c6
    · refine tw_iconst (v := nI 0) dX6_setKey_23 (by decide) ?_
      refine tw_goto (tgt := 28) dX6_setKey_24 (by decide) ?_
      refine tw_callV (M := mX6_setKey) (N := mX6_changes) (f' := f - 1) (As := [_]) hZ hρ kX6_changes rfl q2538 dX6_setKey_28 rfl (by first | exact Nat.le_of_ble_eq_true rfl | simp [Value.category]) rfl (by omega) rfl (T_changes0 hZ hρ (by omega) ?_)
      refine tw_if_ne (tgt := 36) dX6_setKey_31 (by decide) (fun c31 => ?_) (fun c31 => absurd c31 (by decide))
      refine tw_aload_n dX6_setKey_36 rfl rfl rfl ?_
      refine tw_geta (k := 5) hZ hρ (by decide) rfl q2276 dX6_setKey_37 ?_
      refine tw_iload_n dX6_setKey_40 rfl rfl ?_
      refine tw_iald (k := 5) hZ hρ (by decide) (by show _ < 16; omega) dX6_setKey_41 ?_
      rw [ch0_d (by decide) (by decide)]
      refine tw_istore_n (lo' := [_, _, _, _]) dX6_setKey_42 rfl (by decide) rfl ?_
      refine tw_aload_n dX6_setKey_43 rfl rfl rfl ?_
      refine tw_geta (k := 5) hZ hρ (by decide) rfl q2276 dX6_setKey_44 ?_
      refine tw_iload_n dX6_setKey_47 rfl rfl ?_
      refine tw_iload_n dX6_setKey_48 rfl rfl ?_
      refine tw_iast (k := 5) hZ hρ (by decide) (by show _ < 16; omega) dX6_setKey_49 ?_
      refine tw_iload_n dX6_setKey_50 rfl rfl ?_
      refine tw_ireturn rfl rfl dX6_setKey_51 ?_
      first | exact h0 e he rfl hh c20 | exact h2 e he rfl hh c20 | exact h1 c6
  · refine tw_iconst (v := nI 1) dX6_setKey_9 (by decide) ?_
    refine tw_goto (tgt := 28) dX6_setKey_10 (by decide) ?_
    refine tw_callV (M := mX6_setKey) (N := mX6_changes) (f' := f - 1) (As := [_]) hZ hρ kX6_changes rfl q2538 dX6_setKey_28 rfl (by first | exact Nat.le_of_ble_eq_true rfl | simp [Value.category]) rfl (by omega) rfl (T_changesF hZ hρ (by omega) (by decide) ?_)
    refine tw_if_ne (tgt := 36) dX6_setKey_31 (by decide) (fun c31 => absurd c31 (by decide)) (fun c31 => ?_)
    refine tw_iconst (v := nI 0) dX6_setKey_34 (by decide) ?_
    refine tw_ireturn rfl rfl dX6_setKey_35 ?_
    first | exact h0 e he rfl hh c20 | exact h2 e he rfl hh c20 | exact h1 c6
/-- a bit of a set put on or off -/
def bset (s k b : Int32) : Int32 := if b = 0 then s &&& ((nI 1 <<< (k &&& 31)) ^^^ (-1)) else s ||| (nI 1 <<< (k &&& 31))
theorem T_setClass (hZ : Bz G) (hρ : Good G ρ) (hW : WT t) (hf : 4 ≤ f) (x y w : Int32) (h1 : ¬ elb t x = true → K (.int (nI 0)) (chX t (nI 1))) (h2 : ∀ e, e < 16 → x = nI e → hr t e → ¬ (nI 0 ≤ y ∧ y ≤ nI 7) → K (.int (nI 0)) (chX t (nI 2))) (h0 : ∀ e, e < 16 → x = nI e → hr t e → nI 0 ≤ y ∧ y ≤ nI 7 → K (.int (if hb (t 6 e) y = true then 1 else 0)) (tu (ch0 t) 6 e (bset (t 6 e) y w))) : ClT G ρ mX6_setClass f [.ref m, .int x, .int y, .int w] K m A t := by
  refine ClT.of (lo0 := [some (.ref m), some (.int x), some (.int y), some (.int w), none]) (by decide) (by simp [Value.category]) (Nat.le_of_ble_eq_true rfl) rfl ?_
  refine tw_aload_n dX6_setClass_0 rfl rfl rfl ?_
  refine tw_aload_n dX6_setClass_1 rfl rfl rfl ?_
  refine tw_iload_n dX6_setClass_2 rfl rfl ?_
  refine tw_callV (M := mX6_setClass) (N := mX6_isElement) (f' := f - 1) (As := [_]) hZ hρ kX6_isElement rfl q2527 dX6_setClass_3 rfl (by first | exact Nat.le_of_ble_eq_true rfl | simp [Value.category]) rfl (by omega) rfl (T_isElB hZ hρ (by omega) _ ?_)
  refine tw_if_neB (tgt := 13) dX6_setClass_6 (by decide) (fun c6 => ?_) (fun c6 => ?_)
  · obtain ⟨e, he, rfl, hh⟩ := el_of hW c6
    refine tw_iload_n dX6_setClass_13 rfl rfl ?_
    refine tw_iconst (v := nI 0) dX6_setClass_14 (by decide) ?_
    refine tw_bipush (v := nI 7) dX6_setClass_15 (by decide) ?_
    refine tw_callS (M := mX6_setClass) (N := mX6_isIn) (f' := f - 1) (As := [_, _, _]) kX6_isIn q2531 dX6_setClass_17 rfl (by first | exact Nat.le_of_ble_eq_true rfl | simp [Value.category]) rfl (by omega) rfl (T_isIn _ _ _ ?_)
    refine tw_if_eqB (tgt := 27) dX6_setClass_20 (by decide) (fun c20 => ?_) (fun c20 => ?_)
    · refine tw_iconst (v := nI 2) dX6_setClass_27 (by decide) ?_
      refine tw_callV (M := mX6_setClass) (N := mX6_changes) (f' := f - 1) (As := [_]) hZ hρ kX6_changes rfl q2538 dX6_setClass_28 rfl (by first | exact Nat.le_of_ble_eq_true rfl | simp [Value.category]) rfl (by omega) rfl (T_changesF hZ hρ (by omega) (by decide) ?_)
      refine tw_if_ne (tgt := 36) dX6_setClass_31 (by decide) (fun c31 => absurd c31 (by decide)) (fun c31 => ?_)
      refine tw_iconst (v := nI 0) dX6_setClass_34 (by decide) ?_
      refine tw_ireturn rfl rfl dX6_setClass_35 ?_
      first | (have h := h0 e he rfl hh c20; rw [bset] at h; first | (rw [if_pos c54] at h; exact h) | (rw [if_neg c54] at h; exact h)) | exact h2 e he rfl hh c20 | exact h1 c6
    · refine tw_iconst (v := nI 0) dX6_setClass_23 (by decide) ?_
      refine tw_goto (tgt := 28) dX6_setClass_24 (by decide) ?_
      refine tw_callV (M := mX6_setClass) (N := mX6_changes) (f' := f - 1) (As := [_]) hZ hρ kX6_changes rfl q2538 dX6_setClass_28 rfl (by first | exact Nat.le_of_ble_eq_true rfl | simp [Value.category]) rfl (by omega) rfl (T_changes0 hZ hρ (by omega) ?_)
      refine tw_if_ne (tgt := 36) dX6_setClass_31 (by decide) (fun c31 => ?_) (fun c31 => absurd c31 (by decide))
      refine tw_aload_n dX6_setClass_36 rfl rfl rfl ?_
      refine tw_geta (k := 6) hZ hρ (by decide) rfl q2277 dX6_setClass_37 ?_
      refine tw_iload_n dX6_setClass_40 rfl rfl ?_
      refine tw_iald (k := 6) hZ hρ (by decide) (by show _ < 16; omega) dX6_setClass_41 ?_
      rw [ch0_d (by decide) (by decide)]
      refine tw_iload_n dX6_setClass_42 rfl rfl ?_
      refine tw_callS (M := mX6_setClass) (N := mX6_has) (f' := f - 1) (As := [_, _]) kX6_has q2566 dX6_setClass_43 rfl (by first | exact Nat.le_of_ble_eq_true rfl | simp [Value.category]) rfl (by omega) rfl (T_has _ _ ?_)
      refine tw_istore (lo' := [_, _, _, _, _]) dX6_setClass_46 (by decide) rfl ?_
      refine tw_aload_n dX6_setClass_48 rfl rfl rfl ?_
      refine tw_geta (k := 6) hZ hρ (by decide) rfl q2277 dX6_setClass_49 ?_
      refine tw_iload_n dX6_setClass_52 rfl rfl ?_
      refine tw_iload_n dX6_setClass_53 rfl rfl ?_
      refine tw_if_eq (tgt := 70) dX6_setClass_54 (by decide) (fun c54 => ?_) (fun c54 => ?_)
      · refine tw_aload_n dX6_setClass_70 rfl rfl rfl ?_
        refine tw_geta (k := 6) hZ hρ (by decide) rfl q2277 dX6_setClass_71 ?_
        refine tw_iload_n dX6_setClass_74 rfl rfl ?_
        refine tw_iald (k := 6) hZ hρ (by decide) (by show _ < 16; omega) dX6_setClass_75 ?_
        rw [ch0_d (by decide) (by decide)]
        refine tw_iconst (v := nI 1) dX6_setClass_76 (by decide) ?_
        refine tw_iload_n dX6_setClass_77 rfl rfl ?_
        refine tw_ishl dX6_setClass_78 ?_
        refine tw_iconst (v := (-1)) dX6_setClass_79 (by decide) ?_
        refine tw_ixor dX6_setClass_80 ?_
        refine tw_iand dX6_setClass_81 ?_
        refine tw_iast (k := 6) hZ hρ (by decide) (by show _ < 16; omega) dX6_setClass_82 ?_
        refine tw_iload dX6_setClass_83 rfl ?_
        refine tw_ireturn rfl (narrow_z (ite01 _)) dX6_setClass_85 ?_
        first | (have h := h0 e he rfl hh c20; rw [bset] at h; first | (rw [if_pos c54] at h; exact h) | (rw [if_neg c54] at h; exact h)) | exact h2 e he rfl hh c20 | exact h1 c6
      · refine tw_aload_n dX6_setClass_57 rfl rfl rfl ?_
        refine tw_geta (k := 6) hZ hρ (by decide) rfl q2277 dX6_setClass_58 ?_
        refine tw_iload_n dX6_setClass_61 rfl rfl ?_
        refine tw_iald (k := 6) hZ hρ (by decide) (by show _ < 16; omega) dX6_setClass_62 ?_
        rw [ch0_d (by decide) (by decide)]
        refine tw_iconst (v := nI 1) dX6_setClass_63 (by decide) ?_
        refine tw_iload_n dX6_setClass_64 rfl rfl ?_
        refine tw_ishl dX6_setClass_65 ?_
        refine tw_ior dX6_setClass_66 ?_
        refine tw_goto (tgt := 82) dX6_setClass_67 (by decide) ?_
        refine tw_iast (k := 6) hZ hρ (by decide) (by show _ < 16; omega) dX6_setClass_82 ?_
        refine tw_iload dX6_setClass_83 rfl ?_
        refine tw_ireturn rfl (narrow_z (ite01 _)) dX6_setClass_85 ?_
        first | (have h := h0 e he rfl hh c20; rw [bset] at h; first | (rw [if_pos c54] at h; exact h) | (rw [if_neg c54] at h; exact h)) | exact h2 e he rfl hh c20 | exact h1 c6
  · refine tw_iconst (v := nI 1) dX6_setClass_9 (by decide) ?_
    refine tw_goto (tgt := 28) dX6_setClass_10 (by decide) ?_
    refine tw_callV (M := mX6_setClass) (N := mX6_changes) (f' := f - 1) (As := [_]) hZ hρ kX6_changes rfl q2538 dX6_setClass_28 rfl (by first | exact Nat.le_of_ble_eq_true rfl | simp [Value.category]) rfl (by omega) rfl (T_changesF hZ hρ (by omega) (by decide) ?_)
    refine tw_if_ne (tgt := 36) dX6_setClass_31 (by decide) (fun c31 => absurd c31 (by decide)) (fun c31 => ?_)
    refine tw_iconst (v := nI 0) dX6_setClass_34 (by decide) ?_
    refine tw_ireturn rfl rfl dX6_setClass_35 ?_
    first | (have h := h0 e he rfl hh c20; rw [bset] at h; first | (rw [if_pos c54] at h; exact h) | (rw [if_neg c54] at h; exact h)) | exact h2 e he rfl hh c20 | exact h1 c6
theorem T_setState (hZ : Bz G) (hρ : Good G ρ) (hW : WT t) (hf : 4 ≤ f) (x y w : Int32) (h1 : ¬ elb t x = true → K (.int (nI 0)) (chX t (nI 1))) (h2 : ∀ e, e < 16 → x = nI e → hr t e → ¬ (nI 0 ≤ y ∧ y ≤ nI 3) → K (.int (nI 0)) (chX t (nI 2))) (h0 : ∀ e, e < 16 → x = nI e → hr t e → nI 0 ≤ y ∧ y ≤ nI 3 → K (.int (if hb (t 7 e) y = true then 1 else 0)) (tu (ch0 t) 7 e (bset (t 7 e) y w))) : ClT G ρ mX6_setState f [.ref m, .int x, .int y, .int w] K m A t := by
  refine ClT.of (lo0 := [some (.ref m), some (.int x), some (.int y), some (.int w), none]) (by decide) (by simp [Value.category]) (Nat.le_of_ble_eq_true rfl) rfl ?_
  refine tw_aload_n dX6_setState_0 rfl rfl rfl ?_
  refine tw_aload_n dX6_setState_1 rfl rfl rfl ?_
  refine tw_iload_n dX6_setState_2 rfl rfl ?_
  refine tw_callV (M := mX6_setState) (N := mX6_isElement) (f' := f - 1) (As := [_]) hZ hρ kX6_isElement rfl q2527 dX6_setState_3 rfl (by first | exact Nat.le_of_ble_eq_true rfl | simp [Value.category]) rfl (by omega) rfl (T_isElB hZ hρ (by omega) _ ?_)
  refine tw_if_neB (tgt := 13) dX6_setState_6 (by decide) (fun c6 => ?_) (fun c6 => ?_)
  · obtain ⟨e, he, rfl, hh⟩ := el_of hW c6
    refine tw_iload_n dX6_setState_13 rfl rfl ?_
    refine tw_iconst (v := nI 0) dX6_setState_14 (by decide) ?_
    refine tw_iconst (v := nI 3) dX6_setState_15 (by decide) ?_
    refine tw_callS (M := mX6_setState) (N := mX6_isIn) (f' := f - 1) (As := [_, _, _]) kX6_isIn q2531 dX6_setState_16 rfl (by first | exact Nat.le_of_ble_eq_true rfl | simp [Value.category]) rfl (by omega) rfl (T_isIn _ _ _ ?_)
    refine tw_if_eqB (tgt := 26) dX6_setState_19 (by decide) (fun c19 => ?_) (fun c19 => ?_)
    · refine tw_iconst (v := nI 2) dX6_setState_26 (by decide) ?_
      refine tw_callV (M := mX6_setState) (N := mX6_changes) (f' := f - 1) (As := [_]) hZ hρ kX6_changes rfl q2538 dX6_setState_27 rfl (by first | exact Nat.le_of_ble_eq_true rfl | simp [Value.category]) rfl (by omega) rfl (T_changesF hZ hρ (by omega) (by decide) ?_)
      refine tw_if_ne (tgt := 35) dX6_setState_30 (by decide) (fun c30 => absurd c30 (by decide)) (fun c30 => ?_)
      refine tw_iconst (v := nI 0) dX6_setState_33 (by decide) ?_
      refine tw_ireturn rfl rfl dX6_setState_34 ?_
      first | (have h := h0 e he rfl hh c19; rw [bset] at h; first | (rw [if_pos c53] at h; exact h) | (rw [if_neg c53] at h; exact h)) | exact h2 e he rfl hh c19 | exact h1 c6
    · refine tw_iconst (v := nI 0) dX6_setState_22 (by decide) ?_
      refine tw_goto (tgt := 27) dX6_setState_23 (by decide) ?_
      refine tw_callV (M := mX6_setState) (N := mX6_changes) (f' := f - 1) (As := [_]) hZ hρ kX6_changes rfl q2538 dX6_setState_27 rfl (by first | exact Nat.le_of_ble_eq_true rfl | simp [Value.category]) rfl (by omega) rfl (T_changes0 hZ hρ (by omega) ?_)
      refine tw_if_ne (tgt := 35) dX6_setState_30 (by decide) (fun c30 => ?_) (fun c30 => absurd c30 (by decide))
      refine tw_aload_n dX6_setState_35 rfl rfl rfl ?_
      refine tw_geta (k := 7) hZ hρ (by decide) rfl q2278 dX6_setState_36 ?_
      refine tw_iload_n dX6_setState_39 rfl rfl ?_
      refine tw_iald (k := 7) hZ hρ (by decide) (by show _ < 16; omega) dX6_setState_40 ?_
      rw [ch0_d (by decide) (by decide)]
      refine tw_iload_n dX6_setState_41 rfl rfl ?_
      refine tw_callS (M := mX6_setState) (N := mX6_has) (f' := f - 1) (As := [_, _]) kX6_has q2566 dX6_setState_42 rfl (by first | exact Nat.le_of_ble_eq_true rfl | simp [Value.category]) rfl (by omega) rfl (T_has _ _ ?_)
      refine tw_istore (lo' := [_, _, _, _, _]) dX6_setState_45 (by decide) rfl ?_
      refine tw_aload_n dX6_setState_47 rfl rfl rfl ?_
      refine tw_geta (k := 7) hZ hρ (by decide) rfl q2278 dX6_setState_48 ?_
      refine tw_iload_n dX6_setState_51 rfl rfl ?_
      refine tw_iload_n dX6_setState_52 rfl rfl ?_
      refine tw_if_eq (tgt := 69) dX6_setState_53 (by decide) (fun c53 => ?_) (fun c53 => ?_)
      · refine tw_aload_n dX6_setState_69 rfl rfl rfl ?_
        refine tw_geta (k := 7) hZ hρ (by decide) rfl q2278 dX6_setState_70 ?_
        refine tw_iload_n dX6_setState_73 rfl rfl ?_
        refine tw_iald (k := 7) hZ hρ (by decide) (by show _ < 16; omega) dX6_setState_74 ?_
        rw [ch0_d (by decide) (by decide)]
        refine tw_iconst (v := nI 1) dX6_setState_75 (by decide) ?_
        refine tw_iload_n dX6_setState_76 rfl rfl ?_
        refine tw_ishl dX6_setState_77 ?_
        refine tw_iconst (v := (-1)) dX6_setState_78 (by decide) ?_
        refine tw_ixor dX6_setState_79 ?_
        refine tw_iand dX6_setState_80 ?_
        refine tw_iast (k := 7) hZ hρ (by decide) (by show _ < 16; omega) dX6_setState_81 ?_
        refine tw_iload dX6_setState_82 rfl ?_
        refine tw_ireturn rfl (narrow_z (ite01 _)) dX6_setState_84 ?_
        first | (have h := h0 e he rfl hh c19; rw [bset] at h; first | (rw [if_pos c53] at h; exact h) | (rw [if_neg c53] at h; exact h)) | exact h2 e he rfl hh c19 | exact h1 c6
      · refine tw_aload_n dX6_setState_56 rfl rfl rfl ?_
        refine tw_geta (k := 7) hZ hρ (by decide) rfl q2278 dX6_setState_57 ?_
        refine tw_iload_n dX6_setState_60 rfl rfl ?_
        refine tw_iald (k := 7) hZ hρ (by decide) (by show _ < 16; omega) dX6_setState_61 ?_
        rw [ch0_d (by decide) (by decide)]
        refine tw_iconst (v := nI 1) dX6_setState_62 (by decide) ?_
        refine tw_iload_n dX6_setState_63 rfl rfl ?_
        refine tw_ishl dX6_setState_64 ?_
        refine tw_ior dX6_setState_65 ?_
        refine tw_goto (tgt := 81) dX6_setState_66 (by decide) ?_
        refine tw_iast (k := 7) hZ hρ (by decide) (by show _ < 16; omega) dX6_setState_81 ?_
        refine tw_iload dX6_setState_82 rfl ?_
        refine tw_ireturn rfl (narrow_z (ite01 _)) dX6_setState_84 ?_
        first | (have h := h0 e he rfl hh c19; rw [bset] at h; first | (rw [if_pos c53] at h; exact h) | (rw [if_neg c53] at h; exact h)) | exact h2 e he rfl hh c19 | exact h1 c6
  · refine tw_iconst (v := nI 1) dX6_setState_9 (by decide) ?_
    refine tw_goto (tgt := 27) dX6_setState_10 (by decide) ?_
    refine tw_callV (M := mX6_setState) (N := mX6_changes) (f' := f - 1) (As := [_]) hZ hρ kX6_changes rfl q2538 dX6_setState_27 rfl (by first | exact Nat.le_of_ble_eq_true rfl | simp [Value.category]) rfl (by omega) rfl (T_changesF hZ hρ (by omega) (by decide) ?_)
    refine tw_if_ne (tgt := 35) dX6_setState_30 (by decide) (fun c30 => absurd c30 (by decide)) (fun c30 => ?_)
    refine tw_iconst (v := nI 0) dX6_setState_33 (by decide) ?_
    refine tw_ireturn rfl rfl dX6_setState_34 ?_
    first | (have h := h0 e he rfl hh c19; rw [bset] at h; first | (rw [if_pos c53] at h; exact h) | (rw [if_neg c53] at h; exact h)) | exact h2 e he rfl hh c19 | exact h1 c6
end Tw4
