/-! THE TWIN, part 5: setAttribute, setContainer, add -/
set_option maxRecDepth 100000
section Tw5
variable {G : Gv} {ρ : Hp → Heap → Prop} {f : Nat} {K : Value → Tw → Prop} {m : Nat} {A : Nat → Nat} {t : Tw}

theorem php : ∀ (m n : Nat) (f : Nat → Nat), (∀ i, i < n → f i < m) → (∀ i j, i < n → j < n → f i = f j → i = j) → n ≤ m := by
  intro m
  induction m with
  | zero =>
    intro n f h1 _
    apply Decidable.byContradiction
    intro q
    have := h1 0 (by omega)
    omega
  | succ m ih =>
    intro n f h1 h2
    by_cases hx : ∃ i, i < n ∧ f i = m
    · obtain ⟨i, hi, hfi⟩ := hx
      have h := ih (n - 1) (fun k => if k < i then f k else f (k + 1)) (fun k hk => by
        show (if k < i then f k else f (k + 1)) < m
        by_cases hki : k < i
        · rw [if_pos hki]
          have q1 := h1 k (by omega)
          have q2 : f k ≠ m := fun e => by
            have := h2 k i (by omega) hi (e.trans hfi.symm)
            omega
          omega
        · rw [if_neg hki]
          have q1 := h1 (k + 1) (by omega)
          have q2 : f (k + 1) ≠ m := fun e => by
            have := h2 (k + 1) i (by omega) hi (e.trans hfi.symm)
            omega
          omega) (fun a b ha hb e => by
        try simp only at e
        by_cases hai : a < i
        · by_cases hbi : b < i
          · rw [if_pos hai, if_pos hbi] at e
            exact h2 a b (by omega) (by omega) e
          · rw [if_pos hai, if_neg hbi] at e
            have := h2 a (b + 1) (by omega) (by omega) e
            omega
        · by_cases hbi : b < i
          · rw [if_neg hai, if_pos hbi] at e
            have := h2 (a + 1) b (by omega) (by omega) e
            omega
          · rw [if_neg hai, if_neg hbi] at e
            have := h2 (a + 1) (b + 1) (by omega) (by omega) e
            omega)
      omega
    · have h := ih n f (fun i hi => by
        have := h1 i hi
        have q : f i ≠ m := fun e => hx ⟨i, hi, e⟩
        omega) h2
      omega
theorem mn_free (hW : WT t) {p g : Nat} (hp : p < 16) (hh : hr t p) (hg : g < 16) (hg0 : ¬ hr t g) : mn t p ≤ 14 := by
  obtain ⟨m1, m2, m3, m4⟩ := hW.2.2.2.2.1 p hp hh
  have hgz : g ≠ 0 := fun e => hg0 (by rw [e]; exact hW.2.1)
  have h := php 16 (mn t p + 2) (fun i => if i < mn t p then kd t p i else if i = mn t p then 0 else g) (fun i hi => by
    show (if i < mn t p then kd t p i else if i = mn t p then 0 else g) < 16
    by_cases h1 : i < mn t p
    · rw [if_pos h1]; exact (m3 i h1).1
    · rw [if_neg h1]
      by_cases h2 : i = mn t p
      · rw [if_pos h2]; omega
      · rw [if_neg h2]; exact hg) (fun i j hi hj e => by
    try simp only at e
    by_cases h1 : i < mn t p
    · rw [if_pos h1] at e
      by_cases h2 : j < mn t p
      · rw [if_pos h2] at e
        exact m4 i j h1 h2 e
      · rw [if_neg h2] at e
        by_cases h3 : j = mn t p
        · rw [if_pos h3] at e
          exact absurd e (m3 i h1).2.1
        · rw [if_neg h3] at e
          exact absurd (e ▸ (m3 i h1).2.2.2.1) hg0
    · rw [if_neg h1] at e
      by_cases h2 : j < mn t p
      · rw [if_pos h2] at e
        by_cases h3 : i = mn t p
        · rw [if_pos h3] at e
          exact absurd e.symm (m3 j h2).2.1
        · rw [if_neg h3] at e
          exact absurd (e ▸ (m3 j h2).2.2.2.1) hg0
      · rw [if_neg h2] at e
        by_cases h3 : i = mn t p
        · rw [if_pos h3] at e
          by_cases h4 : j = mn t p
          · omega
          · rw [if_neg h4] at e
            exact absurd e.symm hgz
        · rw [if_neg h3] at e
          by_cases h4 : j = mn t p
          · rw [if_pos h4] at e
            exact absurd e hgz
          · omega)
  omega
/-- arrays of booleans hold 0 and 1 -/
def WB (t : Tw) : Prop := ∀ k i, tk k = 2 → t k i = 0 ∨ t k i = 1
theorem T_setAttribute (hZ : Bz G) (hρ : Good G ρ) (hW : WT t) (hf : 4 ≤ f) (x y w : Int32) (h1 : ¬ elb t x = true → K (.int (nI 0)) (chX t (nI 1))) (h2 : ∀ e, e < 16 → x = nI e → hr t e → ¬ ((nI 0 ≤ y ∧ y ≤ nI 3) ∧ ((-1) ≤ w ∧ w ≤ nI 9)) → K (.int (nI 0)) (chX t (nI 2))) (h0 : ∀ e q, e < 16 → x = nI e → hr t e → q ≤ 3 → y = nI q → ((-1) ≤ w ∧ w ≤ nI 9) → K (.int (t 8 (4 * e + q))) (tu (ch0 t) 8 (4 * e + q) w)) : ClT G ρ mX6_setAttribute f [.ref m, .int x, .int y, .int w] K m A t := by
  refine ClT.of (lo0 := [some (.ref m), some (.int x), some (.int y), some (.int w), none, none]) (by decide) (by simp [Value.category]) (Nat.le_of_ble_eq_true rfl) rfl ?_
  refine tw_iload_n dX6_setAttribute_0 rfl rfl ?_
  refine tw_iconst (v := nI 0) dX6_setAttribute_1 (by decide) ?_
  refine tw_iconst (v := nI 3) dX6_setAttribute_2 (by decide) ?_
  refine tw_callS (M := mX6_setAttribute) (N := mX6_isIn) (f' := f - 1) (As := [_, _, _]) kX6_isIn q2531 dX6_setAttribute_3 rfl (by first | exact Nat.le_of_ble_eq_true rfl | simp [Value.category]) rfl (by omega) rfl (T_isIn _ _ _ ?_)
  refine tw_if_eqB (tgt := 23) dX6_setAttribute_6 (by decide) (fun c6 => ?_) (fun c6 => ?_)
  · refine tw_iconst (v := nI 0) dX6_setAttribute_23 (by decide) ?_
    refine tw_istore (lo' := [_, _, _, _, _, _]) dX6_setAttribute_24 (by decide) rfl ?_
    refine tw_aload_n dX6_setAttribute_26 rfl rfl rfl ?_
    refine tw_aload_n dX6_setAttribute_27 rfl rfl rfl ?_
    refine tw_iload_n dX6_setAttribute_28 rfl rfl ?_
    refine tw_callV (M := mX6_setAttribute) (N := mX6_isElement) (f' := f - 1) (As := [_]) hZ hρ kX6_isElement rfl q2527 dX6_setAttribute_29 rfl (by first | exact Nat.le_of_ble_eq_true rfl | simp [Value.category]) rfl (by omega) rfl (T_isElB hZ hρ (by omega) _ ?_)
    refine tw_if_neB (tgt := 39) dX6_setAttribute_32 (by decide) (fun c32 => ?_) (fun c32 => ?_)
    · obtain ⟨e, he, rfl, hh⟩ := el_of hW c32
      first | (obtain ⟨q, hq, rfl⟩ := isIn_of rfl (by omega) c6) | skip
      refine tw_iload dX6_setAttribute_39 rfl ?_
      refine tw_if_eq (tgt := 48) dX6_setAttribute_41 (by decide) (fun c41 => ?_) (fun c41 => absurd c41 (by decide))
      refine tw_iconst (v := nI 2) dX6_setAttribute_48 (by decide) ?_
      refine tw_callV (M := mX6_setAttribute) (N := mX6_changes) (f' := f - 1) (As := [_]) hZ hρ kX6_changes rfl q2538 dX6_setAttribute_49 rfl (by first | exact Nat.le_of_ble_eq_true rfl | simp [Value.category]) rfl (by omega) rfl (T_changesF hZ hρ (by omega) (by decide) ?_)
      refine tw_if_ne (tgt := 57) dX6_setAttribute_52 (by decide) (fun c52 => absurd c52 (by decide)) (fun c52 => ?_)
      refine tw_iconst (v := nI 0) dX6_setAttribute_55 (by decide) ?_
      refine tw_ireturn rfl rfl dX6_setAttribute_56 ?_
      first | exact h0 e q he rfl hh hq rfl c16 | exact h2 e he rfl hh (fun z => c6 z.1) | exact h2 e he rfl hh (fun z => c16 z.2) | exact h1 c32
    · refine tw_iconst (v := nI 1) dX6_setAttribute_35 (by decide) ?_
      refine tw_goto (tgt := 49) dX6_setAttribute_36 (by decide) ?_
      refine tw_callV (M := mX6_setAttribute) (N := mX6_changes) (f' := f - 1) (As := [_]) hZ hρ kX6_changes rfl q2538 dX6_setAttribute_49 rfl (by first | exact Nat.le_of_ble_eq_true rfl | simp [Value.category]) rfl (by omega) rfl (T_changesF hZ hρ (by omega) (by decide) ?_)
      refine tw_if_ne (tgt := 57) dX6_setAttribute_52 (by decide) (fun c52 => absurd c52 (by decide)) (fun c52 => ?_)
      refine tw_iconst (v := nI 0) dX6_setAttribute_55 (by decide) ?_
      refine tw_ireturn rfl rfl dX6_setAttribute_56 ?_
      first | exact h0 e q he rfl hh hq rfl c16 | exact h2 e he rfl hh (fun z => c6 z.1) | exact h2 e he rfl hh (fun z => c16 z.2) | exact h1 c32
  · refine tw_iload_n dX6_setAttribute_9 rfl rfl ?_
    refine tw_iconst (v := (-1)) dX6_setAttribute_10 (by decide) ?_
    refine tw_bipush (v := nI 9) dX6_setAttribute_11 (by decide) ?_
    refine tw_callS (M := mX6_setAttribute) (N := mX6_isIn) (f' := f - 1) (As := [_, _, _]) kX6_isIn q2531 dX6_setAttribute_13 rfl (by first | exact Nat.le_of_ble_eq_true rfl | simp [Value.category]) rfl (by omega) rfl (T_isIn _ _ _ ?_)
    refine tw_if_eqB (tgt := 23) dX6_setAttribute_16 (by decide) (fun c16 => ?_) (fun c16 => ?_)
    · refine tw_iconst (v := nI 0) dX6_setAttribute_23 (by decide) ?_
      refine tw_istore (lo' := [_, _, _, _, _, _]) dX6_setAttribute_24 (by decide) rfl ?_
      refine tw_aload_n dX6_setAttribute_26 rfl rfl rfl ?_
      refine tw_aload_n dX6_setAttribute_27 rfl rfl rfl ?_
      refine tw_iload_n dX6_setAttribute_28 rfl rfl ?_
      refine tw_callV (M := mX6_setAttribute) (N := mX6_isElement) (f' := f - 1) (As := [_]) hZ hρ kX6_isElement rfl q2527 dX6_setAttribute_29 rfl (by first | exact Nat.le_of_ble_eq_true rfl | simp [Value.category]) rfl (by omega) rfl (T_isElB hZ hρ (by omega) _ ?_)
      refine tw_if_neB (tgt := 39) dX6_setAttribute_32 (by decide) (fun c32 => ?_) (fun c32 => ?_)
      · obtain ⟨e, he, rfl, hh⟩ := el_of hW c32
        first | (obtain ⟨q, hq, rfl⟩ := isIn_of rfl (by omega) c6) | skip
        refine tw_iload dX6_setAttribute_39 rfl ?_
        refine tw_if_eq (tgt := 48) dX6_setAttribute_41 (by decide) (fun c41 => ?_) (fun c41 => absurd c41 (by decide))
        refine tw_iconst (v := nI 2) dX6_setAttribute_48 (by decide) ?_
        refine tw_callV (M := mX6_setAttribute) (N := mX6_changes) (f' := f - 1) (As := [_]) hZ hρ kX6_changes rfl q2538 dX6_setAttribute_49 rfl (by first | exact Nat.le_of_ble_eq_true rfl | simp [Value.category]) rfl (by omega) rfl (T_changesF hZ hρ (by omega) (by decide) ?_)
        refine tw_if_ne (tgt := 57) dX6_setAttribute_52 (by decide) (fun c52 => absurd c52 (by decide)) (fun c52 => ?_)
        refine tw_iconst (v := nI 0) dX6_setAttribute_55 (by decide) ?_
        refine tw_ireturn rfl rfl dX6_setAttribute_56 ?_
        first | exact h0 e q he rfl hh hq rfl c16 | exact h2 e he rfl hh (fun z => c6 z.1) | exact h2 e he rfl hh (fun z => c16 z.2) | exact h1 c32
      · refine tw_iconst (v := nI 1) dX6_setAttribute_35 (by decide) ?_
        refine tw_goto (tgt := 49) dX6_setAttribute_36 (by decide) ?_
        refine tw_callV (M := mX6_setAttribute) (N := mX6_changes) (f' := f - 1) (As := [_]) hZ hρ kX6_changes rfl q2538 dX6_setAttribute_49 rfl (by first | exact Nat.le_of_ble_eq_true rfl | simp [Value.category]) rfl (by omega) rfl (T_changesF hZ hρ (by omega) (by decide) ?_)
        refine tw_if_ne (tgt := 57) dX6_setAttribute_52 (by decide) (fun c52 => absurd c52 (by decide)) (fun c52 => ?_)
        refine tw_iconst (v := nI 0) dX6_setAttribute_55 (by decide) ?_
        refine tw_ireturn rfl rfl dX6_setAttribute_56 ?_
        first | exact h0 e q he rfl hh hq rfl c16 | exact h2 e he rfl hh (fun z => c6 z.1) | exact h2 e he rfl hh (fun z => c16 z.2) | exact h1 c32
    · refine tw_iconst (v := nI 1) dX6_setAttribute_19 (by decide) ?_
      refine tw_goto (tgt := 24) dX6_setAttribute_20 (by decide) ?_
      refine tw_istore (lo' := [_, _, _, _, _, _]) dX6_setAttribute_24 (by decide) rfl ?_
      refine tw_aload_n dX6_setAttribute_26 rfl rfl rfl ?_
      refine tw_aload_n dX6_setAttribute_27 rfl rfl rfl ?_
      refine tw_iload_n dX6_setAttribute_28 rfl rfl ?_
      refine tw_callV (M := mX6_setAttribute) (N := mX6_isElement) (f' := f - 1) (As := [_]) hZ hρ kX6_isElement rfl q2527 dX6_setAttribute_29 rfl (by first | exact Nat.le_of_ble_eq_true rfl | simp [Value.category]) rfl (by omega) rfl (T_isElB hZ hρ (by omega) _ ?_)
      refine tw_if_neB (tgt := 39) dX6_setAttribute_32 (by decide) (fun c32 => ?_) (fun c32 => ?_)
      · obtain ⟨e, he, rfl, hh⟩ := el_of hW c32
        first | (obtain ⟨q, hq, rfl⟩ := isIn_of rfl (by omega) c6) | skip
        refine tw_iload dX6_setAttribute_39 rfl ?_
        refine tw_if_eq (tgt := 48) dX6_setAttribute_41 (by decide) (fun c41 => absurd c41 (by decide)) (fun c41 => ?_)
        refine tw_iconst (v := nI 0) dX6_setAttribute_44 (by decide) ?_
        refine tw_goto (tgt := 49) dX6_setAttribute_45 (by decide) ?_
        refine tw_callV (M := mX6_setAttribute) (N := mX6_changes) (f' := f - 1) (As := [_]) hZ hρ kX6_changes rfl q2538 dX6_setAttribute_49 rfl (by first | exact Nat.le_of_ble_eq_true rfl | simp [Value.category]) rfl (by omega) rfl (T_changes0 hZ hρ (by omega) ?_)
        refine tw_if_ne (tgt := 57) dX6_setAttribute_52 (by decide) (fun c52 => ?_) (fun c52 => absurd c52 (by decide))
        refine tw_aload_n dX6_setAttribute_57 rfl rfl rfl ?_
        refine tw_geta (k := 8) hZ hρ (by decide) rfl q2279 dX6_setAttribute_58 ?_
        refine tw_iconst (v := nI 4) dX6_setAttribute_61 (by decide) ?_
        refine tw_iload_n dX6_setAttribute_62 rfl rfl ?_
        refine tw_imulN dX6_setAttribute_63 ?_
        refine tw_iload_n dX6_setAttribute_64 rfl rfl ?_
        refine tw_iaddN dX6_setAttribute_65 ?_
        refine tw_iald (k := 8) hZ hρ (by decide) (by show _ < 64; omega) dX6_setAttribute_66 ?_
        rw [ch0_d (by decide) (by decide)]
        refine tw_istore (lo' := [_, _, _, _, _, _]) dX6_setAttribute_67 (by decide) rfl ?_
        refine tw_aload_n dX6_setAttribute_69 rfl rfl rfl ?_
        refine tw_geta (k := 8) hZ hρ (by decide) rfl q2279 dX6_setAttribute_70 ?_
        refine tw_iconst (v := nI 4) dX6_setAttribute_73 (by decide) ?_
        refine tw_iload_n dX6_setAttribute_74 rfl rfl ?_
        refine tw_imulN dX6_setAttribute_75 ?_
        refine tw_iload_n dX6_setAttribute_76 rfl rfl ?_
        refine tw_iaddN dX6_setAttribute_77 ?_
        refine tw_iload_n dX6_setAttribute_78 rfl rfl ?_
        refine tw_iast (k := 8) hZ hρ (by decide) (by show _ < 64; omega) dX6_setAttribute_79 ?_
        refine tw_iload dX6_setAttribute_80 rfl ?_
        refine tw_ireturn rfl rfl dX6_setAttribute_82 ?_
        first | exact h0 e q he rfl hh hq rfl c16 | exact h2 e he rfl hh (fun z => c6 z.1) | exact h2 e he rfl hh (fun z => c16 z.2) | exact h1 c32
      · refine tw_iconst (v := nI 1) dX6_setAttribute_35 (by decide) ?_
        refine tw_goto (tgt := 49) dX6_setAttribute_36 (by decide) ?_
        refine tw_callV (M := mX6_setAttribute) (N := mX6_changes) (f' := f - 1) (As := [_]) hZ hρ kX6_changes rfl q2538 dX6_setAttribute_49 rfl (by first | exact Nat.le_of_ble_eq_true rfl | simp [Value.category]) rfl (by omega) rfl (T_changesF hZ hρ (by omega) (by decide) ?_)
        refine tw_if_ne (tgt := 57) dX6_setAttribute_52 (by decide) (fun c52 => absurd c52 (by decide)) (fun c52 => ?_)
        refine tw_iconst (v := nI 0) dX6_setAttribute_55 (by decide) ?_
        refine tw_ireturn rfl rfl dX6_setAttribute_56 ?_
        first | exact h0 e q he rfl hh hq rfl c16 | exact h2 e he rfl hh (fun z => c6 z.1) | exact h2 e he rfl hh (fun z => c16 z.2) | exact h1 c32
theorem T_setContainer (hZ : Bz G) (hρ : Good G ρ) (hW : WT t) (hf : 4 ≤ f) (hB : WB t) (x w : Int32) (hw : w = 0 ∨ w = 1) (h1 : ¬ elb t x = true → K (.int (nI 0)) (chX t (nI 1))) (h0 : ∀ e, e < 16 → x = nI e → hr t e → K (.int (t 9 e)) (tu (ch0 t) 9 e w)) : ClT G ρ mX6_setContainer f [.ref m, .int x, .int w] K m A t := by
  refine ClT.of (lo0 := [some (.ref m), some (.int x), some (.int w), none]) (by decide) (by simp [Value.category]) (Nat.le_of_ble_eq_true rfl) rfl ?_
  refine tw_aload_n dX6_setContainer_0 rfl rfl rfl ?_
  refine tw_aload_n dX6_setContainer_1 rfl rfl rfl ?_
  refine tw_iload_n dX6_setContainer_2 rfl rfl ?_
  refine tw_callV (M := mX6_setContainer) (N := mX6_isElement) (f' := f - 1) (As := [_]) hZ hρ kX6_isElement rfl q2527 dX6_setContainer_3 rfl (by first | exact Nat.le_of_ble_eq_true rfl | simp [Value.category]) rfl (by omega) rfl (T_isElB hZ hρ (by omega) _ ?_)
  refine tw_if_eqB (tgt := 13) dX6_setContainer_6 (by decide) (fun c6 => ?_) (fun c6 => ?_)
  · refine tw_iconst (v := nI 1) dX6_setContainer_13 (by decide) ?_
    refine tw_callV (M := mX6_setContainer) (N := mX6_changes) (f' := f - 1) (As := [_]) hZ hρ kX6_changes rfl q2538 dX6_setContainer_14 rfl (by first | exact Nat.le_of_ble_eq_true rfl | simp [Value.category]) rfl (by omega) rfl (T_changesF hZ hρ (by omega) (by decide) ?_)
    refine tw_if_ne (tgt := 22) dX6_setContainer_17 (by decide) (fun c17 => absurd c17 (by decide)) (fun c17 => ?_)
    refine tw_iconst (v := nI 0) dX6_setContainer_20 (by decide) ?_
    refine tw_ireturn rfl rfl dX6_setContainer_21 ?_
    first | exact h0 e he rfl hh | exact h1 c6
  · obtain ⟨e, he, rfl, hh⟩ := el_of hW c6
    have hz := hB 9 e rfl
    refine tw_iconst (v := nI 0) dX6_setContainer_9 (by decide) ?_
    refine tw_goto (tgt := 14) dX6_setContainer_10 (by decide) ?_
    refine tw_callV (M := mX6_setContainer) (N := mX6_changes) (f' := f - 1) (As := [_]) hZ hρ kX6_changes rfl q2538 dX6_setContainer_14 rfl (by first | exact Nat.le_of_ble_eq_true rfl | simp [Value.category]) rfl (by omega) rfl (T_changes0 hZ hρ (by omega) ?_)
    refine tw_if_ne (tgt := 22) dX6_setContainer_17 (by decide) (fun c17 => ?_) (fun c17 => absurd c17 (by decide))
    refine tw_aload_n dX6_setContainer_22 rfl rfl rfl ?_
    refine tw_geta (k := 9) hZ hρ (by decide) rfl q2280 dX6_setContainer_23 ?_
    refine tw_iload_n dX6_setContainer_26 rfl rfl ?_
    refine tw_zald (k := 9) hZ hρ (by decide) (by show _ < 16; omega) dX6_setContainer_27 ?_
    rw [ch0_d (by decide) (by decide)]
    refine tw_istore_n (lo' := [_, _, _, _]) dX6_setContainer_28 rfl (by decide) rfl ?_
    refine tw_aload_n dX6_setContainer_29 rfl rfl rfl ?_
    refine tw_geta (k := 9) hZ hρ (by decide) rfl q2280 dX6_setContainer_30 ?_
    refine tw_iload_n dX6_setContainer_33 rfl rfl ?_
    refine tw_iload_n dX6_setContainer_34 rfl rfl ?_
    refine tw_zast (k := 9) hZ hρ (by decide) (by show _ < 16; omega) (by assumption) dX6_setContainer_35 ?_
    refine tw_iload_n dX6_setContainer_36 rfl rfl ?_
    refine tw_ireturn rfl (narrow_z (by assumption)) dX6_setContainer_37 ?_
    first | exact h0 e he rfl hh | exact h1 c6
/-- the least free number, from 16 - n on -/
def frN (t : Tw) : Nat → Nat
  | 0 => 16
  | n + 1 => if t 0 (15 - n) = 0 then 15 - n else frN t n
theorem frN_le (t : Tw) : ∀ n, frN t n ≤ 16 := by
  intro n
  induction n with
  | zero => exact Nat.le_refl _
  | succ n ih =>
    unfold frN
    split <;> omega
theorem frN_free (t : Tw) : ∀ n, frN t n ≠ 16 → t 0 (frN t n) = 0 := by
  intro n
  induction n with
  | zero => intro h; exact absurd rfl h
  | succ n ih =>
    unfold frN
    split
    · intro _; assumption
    · exact ih
theorem frN_least (t : Tw) : ∀ n, n ≤ 16 → ∀ k, 16 - n ≤ k → k < frN t n → ¬ t 0 k = 0 := by
  intro n
  induction n with
  | zero => intro _ k h1 h2; have : frN t 0 = 16 := rfl; omega
  | succ n ih =>
    intro hn k h1 h2
    unfold frN at h2
    by_cases h : t 0 (15 - n) = 0
    · rw [if_pos h] at h2; omega
    · rw [if_neg h] at h2
      by_cases e : k = 15 - n
      · rw [e]; exact h
      · exact ih (by omega) k (by omega) h2
theorem tw_iincD {M : Md} {i a pc : Nat} {lo lo' : List (Option Value)} {st : List Value} (hd : decode M.2.1 pc = .ok (.iinc i (-1), 3)) (hl0 : lo[i]? = some (some (.int (nI (a + 1))))) (hn : i < M.2.2.1) (hlo : lo.set i (some (.int (nI a))) = lo') (kk : AtT G ρ M f K m A (pc + 3) lo' st t) : AtT G ρ M f K m A pc lo st t :=
  tw_iinc hd hl0 hn (v := nI a) (by rw [show Int32.ofInt (-1) = (-1) by decide]; exact pk_m1 a) hlo kk
theorem clr_d {e k i : Nat} (h : k ≠ 2 ∧ k ≠ 4 ∧ k ≠ 5 ∧ k ≠ 6 ∧ k ≠ 7 ∧ k ≠ 8 ∧ k ≠ 9 ∧ k ≠ 43 ∧ k ≠ 47) : clr t e k i = t k i := by
  obtain ⟨h2, h4, h5, h6, h7, h8, h9, h43, h47⟩ := h
  unfold clr fl
  rw [if_neg (fun z => h47 z.1), if_neg (fun z => h8 z.1), tu_nk _ _ h43, tu_nk _ _ h9, tu_nk _ _ h7, tu_nk _ _ h6, tu_nk _ _ h5, tu_nk _ _ h4, tu_nk _ _ h2]
theorem clr_2 {e i : Nat} (h : i ≠ e) : clr t e 2 i = t 2 i := by
  unfold clr fl
  rw [if_neg (fun z => absurd z.1 (by decide)), if_neg (fun z => absurd z.1 (by decide)), tu_nk _ _ (by decide), tu_nk _ _ (by decide), tu_nk _ _ (by decide), tu_nk _ _ (by decide), tu_nk _ _ (by decide), tu_nk _ _ (by decide), tu_ne _ _ (fun z => h z.2)]
/-- the state behind add: g under p at place q with name z -/
def addS (t : Tw) (g p q n : Nat) (z : Int32) : Tw :=
  tu (tu (tu (shU (tu (clr (tu (ch0 t) 0 g (nI 1)) g) 4 g z) (16 * p + q) (16 * p + n)) 3 (16 * p + q) (nI g)) 2 p (nI (n + 1))) 1 g (nI p)
theorem T_add_loop (hZ : Bz G) (hρ : Good G ρ) {x y z w : Int32} (hK : AtT G ρ mX6_add f K m A 67 [some (.ref m), some (.int x), some (.int y), some (.int z), some (.int w), some (.int (nI (frN t 16))), some (.int (-1))] [] t) : ∀ j, j < 16 → AtT G ρ mX6_add f K m A 37 [some (.ref m), some (.int x), some (.int y), some (.int z), some (.int w), some (.int (nI (frN t (15 - j)))), some (.int (nI j))] [] t := by
  intro j
  induction j with
  | zero =>
    intro hj
    refine tw_iload dX6_add_37 rfl ?_
    refine tw_if_lt (tgt := 67) dX6_add_39 (by decide) (fun c39 => absurd c39 (nI_pos (by omega))) (fun c39 => ?_)
    skip
    refine tw_aload_n dX6_add_42 rfl rfl rfl ?_
    refine tw_geta (k := 0) hZ hρ (by decide) rfl q2271 dX6_add_43 ?_
    refine tw_iload dX6_add_46 rfl ?_
    refine tw_zald (k := 0) hZ hρ (by decide) (by show _ < 16; omega) dX6_add_48 ?_
    refine tw_if_eq (tgt := 57) dX6_add_49 (by decide) (fun c49 => ?_) (fun c49 => ?_)
    · refine tw_iload dX6_add_57 rfl ?_
      refine tw_istore (lo' := [_, _, _, _, _, _, _]) dX6_add_59 (by decide) rfl ?_
      refine tw_iinc (v := (-1)) (lo' := [_, _, _, _, _, _, _]) dX6_add_61 rfl (by decide) (by decide) rfl ?_
      refine tw_goto (tgt := 37) dX6_add_64 (by decide) ?_
      first
        | (have e16 : frN t 16 = 0 := if_pos c49
           rw [e16] at hK
           refine tw_iload (x := (-1)) dX6_add_37 rfl ?_; refine tw_if_lt (tgt := 67) dX6_add_39 (by decide) (fun c39 => ?_) (fun c39 => absurd (by decide) c39); exact hK)
        | (have e16 : frN t 16 = frN t 15 := if_neg c49
           rw [e16] at hK
           refine tw_iload (x := (-1)) dX6_add_37 rfl ?_; refine tw_if_lt (tgt := 67) dX6_add_39 (by decide) (fun c39 => ?_) (fun c39 => absurd (by decide) c39); exact hK)
    · refine tw_iload dX6_add_52 rfl ?_
      refine tw_goto (tgt := 59) dX6_add_54 (by decide) ?_
      refine tw_istore (lo' := [_, _, _, _, _, _, _]) dX6_add_59 (by decide) rfl ?_
      refine tw_iinc (v := (-1)) (lo' := [_, _, _, _, _, _, _]) dX6_add_61 rfl (by decide) (by decide) rfl ?_
      refine tw_goto (tgt := 37) dX6_add_64 (by decide) ?_
      first
        | (have e16 : frN t 16 = 0 := if_pos c49
           rw [e16] at hK
           refine tw_iload (x := (-1)) dX6_add_37 rfl ?_; refine tw_if_lt (tgt := 67) dX6_add_39 (by decide) (fun c39 => ?_) (fun c39 => absurd (by decide) c39); exact hK)
        | (have e16 : frN t 16 = frN t 15 := if_neg c49
           rw [e16] at hK
           refine tw_iload (x := (-1)) dX6_add_37 rfl ?_; refine tw_if_lt (tgt := 67) dX6_add_39 (by decide) (fun c39 => ?_) (fun c39 => absurd (by decide) c39); exact hK)
  | succ j ih =>
    intro hj
    refine tw_iload dX6_add_37 rfl ?_
    refine tw_if_lt (tgt := 67) dX6_add_39 (by decide) (fun c39 => absurd c39 (nI_pos (by omega))) (fun c39 => ?_)
    refine tw_aload_n dX6_add_42 rfl rfl rfl ?_
    refine tw_geta (k := 0) hZ hρ (by decide) rfl q2271 dX6_add_43 ?_
    refine tw_iload dX6_add_46 rfl ?_
    refine tw_zald (k := 0) hZ hρ (by decide) (by show _ < 16; omega) dX6_add_48 ?_
    refine tw_if_eq (tgt := 57) dX6_add_49 (by decide) (fun c49 => ?_) (fun c49 => ?_)
    · refine tw_iload dX6_add_57 rfl ?_
      refine tw_istore (lo' := [_, _, _, _, _, _, _]) dX6_add_59 (by decide) rfl ?_
      refine tw_iincD (lo' := [_, _, _, _, _, _, _]) dX6_add_61 rfl (by decide) rfl ?_
      refine tw_goto (tgt := 37) dX6_add_64 (by decide) ?_
      first
        | (have e1 : frN t (15 - j) = 15 - (14 - j) := by
             rw [show 15 - j = (14 - j) + 1 by omega]
             exact if_pos (by rw [show 15 - (14 - j) = j + 1 by omega]; exact c49)
           rw [show 15 - (14 - j) = j + 1 by omega] at e1
           have h := ih (by omega)
           rw [e1] at h
           exact h)
        | (have e1 : frN t (15 - j) = frN t (15 - (j + 1)) := by
             rw [show 15 - j = (15 - (j + 1)) + 1 by omega]
             exact if_neg (by rw [show 15 - (15 - (j + 1)) = j + 1 by omega]; exact c49)
           have h := ih (by omega)
           rw [e1] at h
           exact h)
    · refine tw_iload dX6_add_52 rfl ?_
      refine tw_goto (tgt := 59) dX6_add_54 (by decide) ?_
      refine tw_istore (lo' := [_, _, _, _, _, _, _]) dX6_add_59 (by decide) rfl ?_
      refine tw_iincD (lo' := [_, _, _, _, _, _, _]) dX6_add_61 rfl (by decide) rfl ?_
      refine tw_goto (tgt := 37) dX6_add_64 (by decide) ?_
      first
        | (have e1 : frN t (15 - j) = 15 - (14 - j) := by
             rw [show 15 - j = (14 - j) + 1 by omega]
             exact if_pos (by rw [show 15 - (14 - j) = j + 1 by omega]; exact c49)
           rw [show 15 - (14 - j) = j + 1 by omega] at e1
           have h := ih (by omega)
           rw [e1] at h
           exact h)
        | (have e1 : frN t (15 - j) = frN t (15 - (j + 1)) := by
             rw [show 15 - j = (15 - (j + 1)) + 1 by omega]
             exact if_neg (by rw [show 15 - (15 - (j + 1)) = j + 1 by omega]; exact c49)
           have h := ih (by omega)
           rw [e1] at h
           exact h)
theorem T_add (hZ : Bz G) (hρ : Good G ρ) (hW : WT t) (hf : 4 ≤ f) (x y z : Int32) (h1 : ¬ elb t x = true → K (.int (nI 0)) (chX t (nI 1))) (h1b : ∀ e, e < 16 → x = nI e → hr t e → (∀ q, q ≤ mn t e → y ≠ nI q) → K (.int (nI 0)) (chX t (nI 1))) (h2 : ∀ e q, e < 16 → x = nI e → hr t e → q ≤ mn t e → y = nI q → ¬ (nI 0 ≤ z ∧ z ≤ nI 7) → K (.int (nI 0)) (chX t (nI 2))) (h3 : ∀ e q, e < 16 → x = nI e → hr t e → q ≤ mn t e → y = nI q → (nI 0 ≤ z ∧ z ≤ nI 7) → (frN t 16 = 16 ∨ dpt t e = 7) → K (.int (nI 0)) (chX t (nI 3))) (h0 : ∀ e q, e < 16 → x = nI e → hr t e → q ≤ mn t e → y = nI q → (nI 0 ≤ z ∧ z ≤ nI 7) → frN t 16 ≠ 16 → dpt t e ≠ 7 → K (.int (nI (frN t 16))) (addS t (frN t 16) e q (mn t e) z)) : ClT G ρ mX6_add f [.ref m, .int x, .int y, .int z] K m A t := by
  refine ClT.of (lo0 := [some (.ref m), some (.int x), some (.int y), some (.int z), none, none, none]) (by decide) (by simp [Value.category]) (Nat.le_of_ble_eq_true rfl) rfl ?_
  have hfr := frN_le t 16
  refine tw_aload_n dX6_add_0 rfl rfl rfl ?_
  refine tw_iload_n dX6_add_1 rfl rfl ?_
  refine tw_callV (M := mX6_add) (N := mX6_isElement) (f' := f - 1) (As := [_]) hZ hρ kX6_isElement rfl q2527 dX6_add_2 rfl (by first | exact Nat.le_of_ble_eq_true rfl | simp [Value.category]) rfl (by omega) rfl (T_isElB hZ hρ (by omega) _ ?_)
  refine tw_if_eqB (tgt := 26) dX6_add_5 (by decide) (fun c5 => ?_) (fun c5 => ?_)
  · refine tw_iconst (v := nI 0) dX6_add_26 (by decide) ?_
    refine tw_istore (lo' := [_, _, _, _, _, _, _]) dX6_add_27 (by decide) rfl ?_
    refine tw_bipush (v := nI 16) dX6_add_29 (by decide) ?_
    refine tw_istore (lo' := [_, _, _, _, _, _, _]) dX6_add_31 (by decide) rfl ?_
    refine tw_bipush (v := nI 15) dX6_add_33 (by decide) ?_
    refine tw_istore (lo' := [_, _, _, _, _, _, _]) dX6_add_35 (by decide) rfl ?_
    refine T_add_loop hZ hρ ?_ 15 (by omega)
    refine tw_iload dX6_add_67 rfl ?_
    refine tw_bipush (v := nI 16) dX6_add_69 (by decide) ?_
    refine tw_icmp_eqN (tgt := 89) (by omega) (by omega) dX6_add_71 (by decide) (fun c71 => ?_) (fun c71 => ?_)
    · refine tw_iconst (v := nI 1) dX6_add_89 (by decide) ?_
      refine tw_goto (tgt := 94) dX6_add_90 (by decide) ?_
      refine tw_istore (lo' := [_, _, _, _, _, _, _]) dX6_add_94 (by decide) rfl ?_
      refine tw_aload_n dX6_add_96 rfl rfl rfl ?_
      refine tw_iload dX6_add_97 rfl ?_
      refine tw_if_ne (tgt := 106) dX6_add_99 (by decide) (fun c99 => absurd c99 (by decide)) (fun c99 => ?_)
      refine tw_iconst (v := nI 1) dX6_add_102 (by decide) ?_
      refine tw_goto (tgt := 130) dX6_add_103 (by decide) ?_
      refine tw_callV (M := mX6_add) (N := mX6_changes) (f' := f - 1) (As := [_]) hZ hρ kX6_changes rfl q2538 dX6_add_130 rfl (by first | exact Nat.le_of_ble_eq_true rfl | simp [Value.category]) rfl (by omega) rfl (T_changesF hZ hρ (by omega) (by decide) ?_)
      refine tw_if_ne (tgt := 138) dX6_add_133 (by decide) (fun c133 => absurd c133 (by decide)) (fun c133 => ?_)
      refine tw_iconst (v := nI 0) dX6_add_136 (by decide) ?_
      refine tw_ireturn rfl rfl dX6_add_137 ?_
      first | exact h1 c5 | exact h1b e he rfl hh (fun q hq e2 => c19 (by rw [m2, e2]; exact isIn_is (by omega) (by omega)))
    · refine tw_iload dX6_add_74 rfl ?_
      refine tw_if_eq (tgt := 93) dX6_add_76 (by decide) (fun c76 => ?_) (fun c76 => absurd c76 (by decide))
      refine tw_iconst (v := nI 0) dX6_add_93 (by decide) ?_
      refine tw_istore (lo' := [_, _, _, _, _, _, _]) dX6_add_94 (by decide) rfl ?_
      refine tw_aload_n dX6_add_96 rfl rfl rfl ?_
      refine tw_iload dX6_add_97 rfl ?_
      refine tw_if_ne (tgt := 106) dX6_add_99 (by decide) (fun c99 => absurd c99 (by decide)) (fun c99 => ?_)
      refine tw_iconst (v := nI 1) dX6_add_102 (by decide) ?_
      refine tw_goto (tgt := 130) dX6_add_103 (by decide) ?_
      refine tw_callV (M := mX6_add) (N := mX6_changes) (f' := f - 1) (As := [_]) hZ hρ kX6_changes rfl q2538 dX6_add_130 rfl (by first | exact Nat.le_of_ble_eq_true rfl | simp [Value.category]) rfl (by omega) rfl (T_changesF hZ hρ (by omega) (by decide) ?_)
      refine tw_if_ne (tgt := 138) dX6_add_133 (by decide) (fun c133 => absurd c133 (by decide)) (fun c133 => ?_)
      refine tw_iconst (v := nI 0) dX6_add_136 (by decide) ?_
      refine tw_ireturn rfl rfl dX6_add_137 ?_
      first | exact h1 c5 | exact h1b e he rfl hh (fun q hq e2 => c19 (by rw [m2, e2]; exact isIn_is (by omega) (by omega)))
  · obtain ⟨e, he, rfl, hh⟩ := el_of hW c5
    obtain ⟨m1, m2, -⟩ := hW.2.2.2.2.1 e he hh
    have hdp := hW.2.2.2.2.2 e he hh
    refine tw_iload_n dX6_add_8 rfl rfl ?_
    refine tw_iconst (v := nI 0) dX6_add_9 (by decide) ?_
    refine tw_aload_n dX6_add_10 rfl rfl rfl ?_
    refine tw_geta (k := 2) hZ hρ (by decide) rfl q2273 dX6_add_11 ?_
    refine tw_iload_n dX6_add_14 rfl rfl ?_
    refine tw_iald (k := 2) hZ hρ (by decide) (by show _ < 16; omega) dX6_add_15 ?_
    refine tw_callS (M := mX6_add) (N := mX6_isIn) (f' := f - 1) (As := [_, _, _]) kX6_isIn q2531 dX6_add_16 rfl (by first | exact Nat.le_of_ble_eq_true rfl | simp [Value.category]) rfl (by omega) rfl (T_isIn _ _ _ ?_)
    refine tw_if_eqB (tgt := 26) dX6_add_19 (by decide) (fun c19 => ?_) (fun c19 => ?_)
    · refine tw_iconst (v := nI 0) dX6_add_26 (by decide) ?_
      refine tw_istore (lo' := [_, _, _, _, _, _, _]) dX6_add_27 (by decide) rfl ?_
      refine tw_bipush (v := nI 16) dX6_add_29 (by decide) ?_
      refine tw_istore (lo' := [_, _, _, _, _, _, _]) dX6_add_31 (by decide) rfl ?_
      refine tw_bipush (v := nI 15) dX6_add_33 (by decide) ?_
      refine tw_istore (lo' := [_, _, _, _, _, _, _]) dX6_add_35 (by decide) rfl ?_
      refine T_add_loop hZ hρ ?_ 15 (by omega)
      refine tw_iload dX6_add_67 rfl ?_
      refine tw_bipush (v := nI 16) dX6_add_69 (by decide) ?_
      refine tw_icmp_eqN (tgt := 89) (by omega) (by omega) dX6_add_71 (by decide) (fun c71 => ?_) (fun c71 => ?_)
      · refine tw_iconst (v := nI 1) dX6_add_89 (by decide) ?_
        refine tw_goto (tgt := 94) dX6_add_90 (by decide) ?_
        refine tw_istore (lo' := [_, _, _, _, _, _, _]) dX6_add_94 (by decide) rfl ?_
        refine tw_aload_n dX6_add_96 rfl rfl rfl ?_
        refine tw_iload dX6_add_97 rfl ?_
        refine tw_if_ne (tgt := 106) dX6_add_99 (by decide) (fun c99 => absurd c99 (by decide)) (fun c99 => ?_)
        refine tw_iconst (v := nI 1) dX6_add_102 (by decide) ?_
        refine tw_goto (tgt := 130) dX6_add_103 (by decide) ?_
        refine tw_callV (M := mX6_add) (N := mX6_changes) (f' := f - 1) (As := [_]) hZ hρ kX6_changes rfl q2538 dX6_add_130 rfl (by first | exact Nat.le_of_ble_eq_true rfl | simp [Value.category]) rfl (by omega) rfl (T_changesF hZ hρ (by omega) (by decide) ?_)
        refine tw_if_ne (tgt := 138) dX6_add_133 (by decide) (fun c133 => absurd c133 (by decide)) (fun c133 => ?_)
        refine tw_iconst (v := nI 0) dX6_add_136 (by decide) ?_
        refine tw_ireturn rfl rfl dX6_add_137 ?_
        first | exact h1 c5 | exact h1b e he rfl hh (fun q hq e2 => c19 (by rw [m2, e2]; exact isIn_is (by omega) (by omega)))
      · refine tw_iload dX6_add_74 rfl ?_
        refine tw_if_eq (tgt := 93) dX6_add_76 (by decide) (fun c76 => ?_) (fun c76 => absurd c76 (by decide))
        refine tw_iconst (v := nI 0) dX6_add_93 (by decide) ?_
        refine tw_istore (lo' := [_, _, _, _, _, _, _]) dX6_add_94 (by decide) rfl ?_
        refine tw_aload_n dX6_add_96 rfl rfl rfl ?_
        refine tw_iload dX6_add_97 rfl ?_
        refine tw_if_ne (tgt := 106) dX6_add_99 (by decide) (fun c99 => absurd c99 (by decide)) (fun c99 => ?_)
        refine tw_iconst (v := nI 1) dX6_add_102 (by decide) ?_
        refine tw_goto (tgt := 130) dX6_add_103 (by decide) ?_
        refine tw_callV (M := mX6_add) (N := mX6_changes) (f' := f - 1) (As := [_]) hZ hρ kX6_changes rfl q2538 dX6_add_130 rfl (by first | exact Nat.le_of_ble_eq_true rfl | simp [Value.category]) rfl (by omega) rfl (T_changesF hZ hρ (by omega) (by decide) ?_)
        refine tw_if_ne (tgt := 138) dX6_add_133 (by decide) (fun c133 => absurd c133 (by decide)) (fun c133 => ?_)
        refine tw_iconst (v := nI 0) dX6_add_136 (by decide) ?_
        refine tw_ireturn rfl rfl dX6_add_137 ?_
        first | exact h1 c5 | exact h1b e he rfl hh (fun q hq e2 => c19 (by rw [m2, e2]; exact isIn_is (by omega) (by omega)))
    · have c19b := c19
      rw [m2] at c19b
      obtain ⟨q, hq, rfl⟩ := isIn_of rfl (by omega) c19b
      refine tw_iconst (v := nI 1) dX6_add_22 (by decide) ?_
      refine tw_goto (tgt := 27) dX6_add_23 (by decide) ?_
      refine tw_istore (lo' := [_, _, _, _, _, _, _]) dX6_add_27 (by decide) rfl ?_
      refine tw_bipush (v := nI 16) dX6_add_29 (by decide) ?_
      refine tw_istore (lo' := [_, _, _, _, _, _, _]) dX6_add_31 (by decide) rfl ?_
      refine tw_bipush (v := nI 15) dX6_add_33 (by decide) ?_
      refine tw_istore (lo' := [_, _, _, _, _, _, _]) dX6_add_35 (by decide) rfl ?_
      refine T_add_loop hZ hρ ?_ 15 (by omega)
      refine tw_iload dX6_add_67 rfl ?_
      refine tw_bipush (v := nI 16) dX6_add_69 (by decide) ?_
      refine tw_icmp_eqN (tgt := 89) (by omega) (by omega) dX6_add_71 (by decide) (fun c71 => ?_) (fun c71 => ?_)
      · refine tw_iconst (v := nI 1) dX6_add_89 (by decide) ?_
        refine tw_goto (tgt := 94) dX6_add_90 (by decide) ?_
        refine tw_istore (lo' := [_, _, _, _, _, _, _]) dX6_add_94 (by decide) rfl ?_
        refine tw_aload_n dX6_add_96 rfl rfl rfl ?_
        refine tw_iload dX6_add_97 rfl ?_
        refine tw_if_ne (tgt := 106) dX6_add_99 (by decide) (fun c99 => ?_) (fun c99 => absurd c99 (by decide))
        refine tw_iload_n dX6_add_106 rfl rfl ?_
        refine tw_iconst (v := nI 0) dX6_add_107 (by decide) ?_
        refine tw_bipush (v := nI 7) dX6_add_108 (by decide) ?_
        refine tw_callS (M := mX6_add) (N := mX6_isIn) (f' := f - 1) (As := [_, _, _]) kX6_isIn q2531 dX6_add_110 rfl (by first | exact Nat.le_of_ble_eq_true rfl | simp [Value.category]) rfl (by omega) rfl (T_isIn _ _ _ ?_)
        refine tw_if_neB (tgt := 120) dX6_add_113 (by decide) (fun c113 => ?_) (fun c113 => ?_)
        · refine tw_iload dX6_add_120 rfl ?_
          refine tw_if_eq (tgt := 129) dX6_add_122 (by decide) (fun c122 => absurd c122 (by decide)) (fun c122 => ?_)
          refine tw_iconst (v := nI 3) dX6_add_125 (by decide) ?_
          refine tw_goto (tgt := 130) dX6_add_126 (by decide) ?_
          refine tw_callV (M := mX6_add) (N := mX6_changes) (f' := f - 1) (As := [_]) hZ hρ kX6_changes rfl q2538 dX6_add_130 rfl (by first | exact Nat.le_of_ble_eq_true rfl | simp [Value.category]) rfl (by omega) rfl (T_changesF hZ hρ (by omega) (by decide) ?_)
          refine tw_if_ne (tgt := 138) dX6_add_133 (by decide) (fun c133 => absurd c133 (by decide)) (fun c133 => ?_)
          refine tw_iconst (v := nI 0) dX6_add_136 (by decide) ?_
          refine tw_ireturn rfl rfl dX6_add_137 ?_
          first | exact h0 e q he rfl hh hq rfl c113 c71 c86 | exact h2 e q he rfl hh hq rfl c113 | exact h3 e q he rfl hh hq rfl c113 (Or.inl c71) | exact h3 e q he rfl hh hq rfl c113 (Or.inr c86)
        · refine tw_iconst (v := nI 2) dX6_add_116 (by decide) ?_
          refine tw_goto (tgt := 130) dX6_add_117 (by decide) ?_
          refine tw_callV (M := mX6_add) (N := mX6_changes) (f' := f - 1) (As := [_]) hZ hρ kX6_changes rfl q2538 dX6_add_130 rfl (by first | exact Nat.le_of_ble_eq_true rfl | simp [Value.category]) rfl (by omega) rfl (T_changesF hZ hρ (by omega) (by decide) ?_)
          refine tw_if_ne (tgt := 138) dX6_add_133 (by decide) (fun c133 => absurd c133 (by decide)) (fun c133 => ?_)
          refine tw_iconst (v := nI 0) dX6_add_136 (by decide) ?_
          refine tw_ireturn rfl rfl dX6_add_137 ?_
          first | exact h0 e q he rfl hh hq rfl c113 c71 c86 | exact h2 e q he rfl hh hq rfl c113 | exact h3 e q he rfl hh hq rfl c113 (Or.inl c71) | exact h3 e q he rfl hh hq rfl c113 (Or.inr c86)
      · refine tw_iload dX6_add_74 rfl ?_
        refine tw_if_eq (tgt := 93) dX6_add_76 (by decide) (fun c76 => absurd c76 (by decide)) (fun c76 => ?_)
        refine tw_aload_n dX6_add_79 rfl rfl rfl ?_
        refine tw_iload_n dX6_add_80 rfl rfl ?_
        refine tw_callV (M := mX6_add) (N := mX6_depth) (f' := f - 1) (As := [_]) hZ hρ kX6_depth rfl q2534 dX6_add_81 rfl (by first | exact Nat.le_of_ble_eq_true rfl | simp [Value.category]) rfl (by omega) rfl (T_depth hZ hρ hW he hh ?_)
        refine tw_bipush (v := nI 7) dX6_add_84 (by decide) ?_
        refine tw_icmp_neN (tgt := 93) (by omega) (by omega) dX6_add_86 (by decide) (fun c86 => ?_) (fun c86 => ?_)
        · refine tw_iconst (v := nI 0) dX6_add_93 (by decide) ?_
          refine tw_istore (lo' := [_, _, _, _, _, _, _]) dX6_add_94 (by decide) rfl ?_
          refine tw_aload_n dX6_add_96 rfl rfl rfl ?_
          refine tw_iload dX6_add_97 rfl ?_
          refine tw_if_ne (tgt := 106) dX6_add_99 (by decide) (fun c99 => ?_) (fun c99 => absurd c99 (by decide))
          refine tw_iload_n dX6_add_106 rfl rfl ?_
          refine tw_iconst (v := nI 0) dX6_add_107 (by decide) ?_
          refine tw_bipush (v := nI 7) dX6_add_108 (by decide) ?_
          refine tw_callS (M := mX6_add) (N := mX6_isIn) (f' := f - 1) (As := [_, _, _]) kX6_isIn q2531 dX6_add_110 rfl (by first | exact Nat.le_of_ble_eq_true rfl | simp [Value.category]) rfl (by omega) rfl (T_isIn _ _ _ ?_)
          refine tw_if_neB (tgt := 120) dX6_add_113 (by decide) (fun c113 => ?_) (fun c113 => ?_)
          · refine tw_iload dX6_add_120 rfl ?_
            refine tw_if_eq (tgt := 129) dX6_add_122 (by decide) (fun c122 => ?_) (fun c122 => absurd c122 (by decide))
            refine tw_iconst (v := nI 0) dX6_add_129 (by decide) ?_
            refine tw_callV (M := mX6_add) (N := mX6_changes) (f' := f - 1) (As := [_]) hZ hρ kX6_changes rfl q2538 dX6_add_130 rfl (by first | exact Nat.le_of_ble_eq_true rfl | simp [Value.category]) rfl (by omega) rfl (T_changes0 hZ hρ (by omega) ?_)
            refine tw_if_ne (tgt := 138) dX6_add_133 (by decide) (fun c133 => ?_) (fun c133 => absurd c133 (by decide))
            have hg : frN t 16 ≠ 16 := c71
            have hg16 : frN t 16 < 16 := by have := frN_le t 16; omega
            have hgh : ¬ hr t (frN t 16) := fun z => absurd ((frN_free t 16 hg).symm.trans z) (by decide)
            refine tw_aload_n dX6_add_138 rfl rfl rfl ?_
            refine tw_geta (k := 0) hZ hρ (by decide) rfl q2271 dX6_add_139 ?_
            refine tw_iload dX6_add_142 rfl ?_
            refine tw_iconst (v := nI 1) dX6_add_144 (by decide) ?_
            refine tw_zast (k := 0) hZ hρ (by decide) (by show _ < 16; omega) (Or.inr rfl) dX6_add_145 ?_
            refine tw_aload_n dX6_add_146 rfl rfl rfl ?_
            refine tw_iload dX6_add_147 rfl ?_
            refine tw_callVv (M := mX6_add) (N := mX6_clears) (f' := f - 1) (As := [_]) hZ hρ kX6_clears rfl q2259 dX6_add_149 rfl (by first | exact Nat.le_of_ble_eq_true rfl | simp [Value.category]) rfl (by omega) rfl (T_clears hZ hρ hg16 ?_)
            refine tw_aload_n dX6_add_152 rfl rfl rfl ?_
            refine tw_geta (k := 4) hZ hρ (by decide) rfl q2275 dX6_add_153 ?_
            refine tw_iload dX6_add_156 rfl ?_
            refine tw_iload_n dX6_add_158 rfl rfl ?_
            refine tw_iast (k := 4) hZ hρ (by decide) (by show _ < 16; omega) dX6_add_159 ?_
            refine tw_aload_n dX6_add_160 rfl rfl rfl ?_
            refine tw_iload dX6_add_161 rfl ?_
            refine tw_iload_n dX6_add_163 rfl rfl ?_
            refine tw_iload_n dX6_add_164 rfl rfl ?_
            refine tw_callVv (M := mX6_add) (N := mX6_putsIn) (f' := f - 1) (As := [_, _, _]) hZ hρ kX6_putsIn rfl q2546 dX6_add_165 rfl (by first | exact Nat.le_of_ble_eq_true rfl | simp [Value.category]) rfl (by omega) rfl (T_putsIn hZ hρ (n := mn t e) hg16 he (by rw [tu_nk _ _ (by decide), clr_2 (fun z => hgh (by rw [← z]; exact hh)), tu_nk _ _ (by decide), ch0_d (by decide) (by decide)]; exact m2) (by have := mn_free hW he hh hg16 hgh; omega) (by omega) ?_)
            refine tw_iload dX6_add_168 rfl ?_
            refine tw_ireturn rfl rfl dX6_add_170 ?_
            first | exact h0 e q he rfl hh hq rfl c113 c71 c86 | exact h2 e q he rfl hh hq rfl c113 | exact h3 e q he rfl hh hq rfl c113 (Or.inl c71) | exact h3 e q he rfl hh hq rfl c113 (Or.inr c86)
          · refine tw_iconst (v := nI 2) dX6_add_116 (by decide) ?_
            refine tw_goto (tgt := 130) dX6_add_117 (by decide) ?_
            refine tw_callV (M := mX6_add) (N := mX6_changes) (f' := f - 1) (As := [_]) hZ hρ kX6_changes rfl q2538 dX6_add_130 rfl (by first | exact Nat.le_of_ble_eq_true rfl | simp [Value.category]) rfl (by omega) rfl (T_changesF hZ hρ (by omega) (by decide) ?_)
            refine tw_if_ne (tgt := 138) dX6_add_133 (by decide) (fun c133 => absurd c133 (by decide)) (fun c133 => ?_)
            refine tw_iconst (v := nI 0) dX6_add_136 (by decide) ?_
            refine tw_ireturn rfl rfl dX6_add_137 ?_
            first | exact h0 e q he rfl hh hq rfl c113 c71 c86 | exact h2 e q he rfl hh hq rfl c113 | exact h3 e q he rfl hh hq rfl c113 (Or.inl c71) | exact h3 e q he rfl hh hq rfl c113 (Or.inr c86)
        · refine tw_iconst (v := nI 1) dX6_add_89 (by decide) ?_
          refine tw_goto (tgt := 94) dX6_add_90 (by decide) ?_
          refine tw_istore (lo' := [_, _, _, _, _, _, _]) dX6_add_94 (by decide) rfl ?_
          refine tw_aload_n dX6_add_96 rfl rfl rfl ?_
          refine tw_iload dX6_add_97 rfl ?_
          refine tw_if_ne (tgt := 106) dX6_add_99 (by decide) (fun c99 => ?_) (fun c99 => absurd c99 (by decide))
          refine tw_iload_n dX6_add_106 rfl rfl ?_
          refine tw_iconst (v := nI 0) dX6_add_107 (by decide) ?_
          refine tw_bipush (v := nI 7) dX6_add_108 (by decide) ?_
          refine tw_callS (M := mX6_add) (N := mX6_isIn) (f' := f - 1) (As := [_, _, _]) kX6_isIn q2531 dX6_add_110 rfl (by first | exact Nat.le_of_ble_eq_true rfl | simp [Value.category]) rfl (by omega) rfl (T_isIn _ _ _ ?_)
          refine tw_if_neB (tgt := 120) dX6_add_113 (by decide) (fun c113 => ?_) (fun c113 => ?_)
          · refine tw_iload dX6_add_120 rfl ?_
            refine tw_if_eq (tgt := 129) dX6_add_122 (by decide) (fun c122 => absurd c122 (by decide)) (fun c122 => ?_)
            refine tw_iconst (v := nI 3) dX6_add_125 (by decide) ?_
            refine tw_goto (tgt := 130) dX6_add_126 (by decide) ?_
            refine tw_callV (M := mX6_add) (N := mX6_changes) (f' := f - 1) (As := [_]) hZ hρ kX6_changes rfl q2538 dX6_add_130 rfl (by first | exact Nat.le_of_ble_eq_true rfl | simp [Value.category]) rfl (by omega) rfl (T_changesF hZ hρ (by omega) (by decide) ?_)
            refine tw_if_ne (tgt := 138) dX6_add_133 (by decide) (fun c133 => absurd c133 (by decide)) (fun c133 => ?_)
            refine tw_iconst (v := nI 0) dX6_add_136 (by decide) ?_
            refine tw_ireturn rfl rfl dX6_add_137 ?_
            first | exact h0 e q he rfl hh hq rfl c113 c71 c86 | exact h2 e q he rfl hh hq rfl c113 | exact h3 e q he rfl hh hq rfl c113 (Or.inl c71) | exact h3 e q he rfl hh hq rfl c113 (Or.inr c86)
          · refine tw_iconst (v := nI 2) dX6_add_116 (by decide) ?_
            refine tw_goto (tgt := 130) dX6_add_117 (by decide) ?_
            refine tw_callV (M := mX6_add) (N := mX6_changes) (f' := f - 1) (As := [_]) hZ hρ kX6_changes rfl q2538 dX6_add_130 rfl (by first | exact Nat.le_of_ble_eq_true rfl | simp [Value.category]) rfl (by omega) rfl (T_changesF hZ hρ (by omega) (by decide) ?_)
            refine tw_if_ne (tgt := 138) dX6_add_133 (by decide) (fun c133 => absurd c133 (by decide)) (fun c133 => ?_)
            refine tw_iconst (v := nI 0) dX6_add_136 (by decide) ?_
            refine tw_ireturn rfl rfl dX6_add_137 ?_
            first | exact h0 e q he rfl hh hq rfl c113 c71 c86 | exact h2 e q he rfl hh hq rfl c113 | exact h3 e q he rfl hh hq rfl c113 (Or.inl c71) | exact h3 e q he rfl hh hq rfl c113 (Or.inr c86)
end Tw5
