/-! THE TWIN, part 1: questions about the tree -/
set_option maxRecDepth 100000
section Tw1
variable {G : Gv} {ρ : Hp → Heap → Prop} {f : Nat} {K : Value → Tw → Prop} {m : Nat} {A : Nat → Nat} {t : Tw}

/-- the tree: who is here, parents, how many children, children, places, depths -/
def hr (t : Tw) (e : Nat) : Prop := t 0 e = 1
def pr (t : Tw) (e : Nat) : Nat := (t 1 e).toNatClampNeg
def mn (t : Tw) (e : Nat) : Nat := (t 2 e).toNatClampNeg
def kd (t : Tw) (e j : Nat) : Nat := (t 3 (16 * e + j)).toNatClampNeg
def dq (t : Tw) : Nat → Nat → Nat
  | 0, _ => 0
  | n + 1, e => if e = 0 then 0 else dq t n (pr t e) + 1
def dpt (t : Tw) (e : Nat) : Nat := dq t 8 e
def WT (t : Tw) : Prop :=
  (∀ e, e < 16 → t 0 e = 0 ∨ t 0 e = 1) ∧ t 0 0 = 1 ∧ t 1 0 = -1 ∧
  (∀ e, e < 16 → hr t e → e ≠ 0 → pr t e < 16 ∧ t 1 e = nI (pr t e) ∧ hr t (pr t e) ∧ dpt t e = dpt t (pr t e) + 1 ∧ ∃ j, j < mn t (pr t e) ∧ kd t (pr t e) j = e) ∧
  (∀ p, p < 16 → hr t p → mn t p < 16 ∧ t 2 p = nI (mn t p) ∧ (∀ j, j < mn t p → kd t p j < 16 ∧ kd t p j ≠ 0 ∧ t 3 (16 * p + j) = nI (kd t p j) ∧ hr t (kd t p j) ∧ pr t (kd t p j) = p) ∧ (∀ i j, i < mn t p → j < mn t p → kd t p i = kd t p j → i = j)) ∧
  (∀ e, e < 16 → hr t e → dpt t e ≤ 7)
/-- e is b or below it, e being d deep -/
def wb (t : Tw) (b : Nat) : Nat → Nat → Bool
  | 0, e => e == b
  | d + 1, e => e == b || wb t b d (pr t e)
/-- the place of e among its siblings -/
def pl (t : Tw) (e : Nat) : Nat := if e = 0 then 0 else ((List.range 16).find? (fun j => kd t (pr t e) j == e)).getD 0
theorem pl_spec (hW : WT t) {e : Nat} (he : e < 16) (hh : hr t e) (h0 : e ≠ 0) : pl t e < mn t (pr t e) ∧ kd t (pr t e) (pl t e) = e := by
  obtain ⟨h1, h2, h3, h4, j, h5, h6⟩ := hW.2.2.2.1 e he hh h0
  have hm := (hW.2.2.2.2.1 (pr t e) h1 h3).1
  unfold pl
  rw [if_neg h0]
  cases hf : (List.range 16).find? (fun j => kd t (pr t e) j == e) with
  | none =>
    have := List.find?_eq_none.mp hf j (List.mem_range.mpr (by omega))
    simp [h6] at this
  | some q =>
    have hq := List.find?_some hf
    have hq : kd t (pr t e) q = e := by simpa using hq
    have hle : q ≤ j := by
      apply Decidable.byContradiction
      intro hgt
      obtain ⟨hp, as, bs, hs, hall⟩ := List.find?_eq_some_iff_append.mp hf
      have hlen : as.length = q := by
        have e1 : (List.range 16)[as.length]? = some q := by rw [hs]; simp
        have h16 : as.length < 16 := by
          have : (List.range 16).length = as.length + (bs.length + 1) := by rw [hs]; simp
          simp at this; omega
        rw [List.getElem?_range h16] at e1
        exact Option.some.inj e1
      have hm : j ∈ as := by
        have e1 : (List.range 16)[j]? = some j := List.getElem?_range (by omega)
        rw [hs, List.getElem?_append_left (by omega)] at e1
        exact List.mem_of_getElem? e1
      have := hall j hm
      simp [h6] at this
    exact ⟨by show q < _; omega, by show kd t (pr t e) q = e; exact hq⟩
theorem pl_uni (hW : WT t) {e j : Nat} (he : e < 16) (hh : hr t e) (h0 : e ≠ 0) (hj : j < mn t (pr t e)) (hk : kd t (pr t e) j = e) : j = pl t e := by
  obtain ⟨h1, h2, h3, h4, -⟩ := hW.2.2.2.1 e he hh h0
  obtain ⟨g1, g2⟩ := pl_spec hW he hh h0
  exact (hW.2.2.2.2.1 (pr t e) h1 h3).2.2.2 j (pl t e) hj g1 (hk.trans g2.symm)
theorem T_thrown (hZ : Bz G) (hρ : Good G ρ) (hK : K (.int (t 81 0)) t) : ClT G ρ mX6_thrown f [.ref m] K m A t := by
  refine ClT.of (lo0 := [some (.ref m)]) (by decide) (by simp [Value.category]) (Nat.le_of_ble_eq_true rfl) rfl ?_
  refine tw_aload_n dX6_thrown_0 rfl rfl rfl ?_
  refine tw_gets (k := 81) hZ hρ (by decide) (by decide) rfl q2352 dX6_thrown_1 ?_
  refine tw_ireturn rfl rfl dX6_thrown_4 ?_
  exact hK
theorem T_isIn (x a b : Int32) (hK : K (.int (if a ≤ x ∧ x ≤ b then 1 else 0)) t) : ClT G ρ mX6_isIn f [.int x, .int a, .int b] K m A t := by
  refine ClT.of (lo0 := [some (.int x), some (.int a), some (.int b)]) (by decide) (by simp [Value.category]) (Nat.le_of_ble_eq_true rfl) rfl ?_
  refine tw_iload_n dX6_isIn_0 rfl rfl ?_
  refine tw_iload_n dX6_isIn_1 rfl rfl ?_
  refine tw_icmp_lt (tgt := 14) dX6_isIn_2 (by decide) (fun c2 => ?_) (fun c2 => ?_)
  · refine tw_iconst (v := (0)) dX6_isIn_14 (by decide) ?_
    refine tw_ireturn rfl rfl dX6_isIn_15 ?_
    exact K_f hK (fun q => by first | exact absurd q.1 (Int32.not_le.mpr c2) | exact absurd q.2 (Int32.not_le.mpr c7)) rfl
  · refine tw_iload_n dX6_isIn_5 rfl rfl ?_
    refine tw_iload_n dX6_isIn_6 rfl rfl ?_
    refine tw_icmp_gt (tgt := 14) dX6_isIn_7 (by decide) (fun c7 => ?_) (fun c7 => ?_)
    · refine tw_iconst (v := (0)) dX6_isIn_14 (by decide) ?_
      refine tw_ireturn rfl rfl dX6_isIn_15 ?_
      exact K_f hK (fun q => by first | exact absurd q.1 (Int32.not_le.mpr c2) | exact absurd q.2 (Int32.not_le.mpr c7)) rfl
    · refine tw_iconst (v := (1)) dX6_isIn_10 (by decide) ?_
      refine tw_goto (tgt := 15) dX6_isIn_11 (by decide) ?_
      refine tw_ireturn rfl rfl dX6_isIn_15 ?_
      exact K_t hK ⟨Int32.not_lt.mp c2, Int32.not_lt.mp c7⟩ rfl
theorem T_has (x y : Int32) (hK : K (.int (if hb x y = true then 1 else 0)) t) : ClT G ρ mX6_has f [.int x, .int y] K m A t := by
  refine ClT.of (lo0 := [some (.int x), some (.int y)]) (by decide) (by simp [Value.category]) (Nat.le_of_ble_eq_true rfl) rfl ?_
  refine tw_iload_n dX6_has_0 rfl rfl ?_
  refine tw_iload_n dX6_has_1 rfl rfl ?_
  refine tw_ishr dX6_has_2 ?_
  refine tw_iconst (v := (1)) dX6_has_3 (by decide) ?_
  refine tw_iand dX6_has_4 ?_
  refine tw_iconst (v := (1)) dX6_has_5 (by decide) ?_
  refine tw_icmp_ne (tgt := 13) dX6_has_6 (by decide) (fun c6 => ?_) (fun c6 => ?_)
  · refine tw_iconst (v := (0)) dX6_has_13 (by decide) ?_
    refine tw_ireturn rfl rfl dX6_has_14 ?_
    exact K_f hK (fun q => absurd (of_decide_eq_true q) c6) rfl
  · refine tw_iconst (v := (1)) dX6_has_9 (by decide) ?_
    refine tw_goto (tgt := 14) dX6_has_10 (by decide) ?_
    refine tw_ireturn rfl rfl dX6_has_14 ?_
    exact K_t hK (decide_eq_true c6) rfl
theorem T_can (hZ : Bz G) (hρ : Good G ρ) (x : Int32) (hK : K (.int (if x = 0 then 1 else 0)) (tu t 81 0 x)) : ClT G ρ mX6_can f [.ref m, .int x] K m A t := by
  refine ClT.of (lo0 := [some (.ref m), some (.int x)]) (by decide) (by simp [Value.category]) (Nat.le_of_ble_eq_true rfl) rfl ?_
  refine tw_aload_n dX6_can_0 rfl rfl rfl ?_
  refine tw_iload_n dX6_can_1 rfl rfl ?_
  refine tw_puts (k := 81) hZ hρ (by decide) (by decide) rfl q2352 rfl rfl rfl dX6_can_2 ?_
  refine tw_iload_n dX6_can_5 rfl rfl ?_
  refine tw_if_ne (tgt := 13) dX6_can_6 (by decide) (fun c6 => ?_) (fun c6 => ?_)
  · refine tw_iconst (v := (0)) dX6_can_13 (by decide) ?_
    refine tw_ireturn rfl rfl dX6_can_14 ?_
    exact K_f hK c6 rfl
  · refine tw_iconst (v := (1)) dX6_can_9 (by decide) ?_
    refine tw_goto (tgt := 14) dX6_can_10 (by decide) ?_
    refine tw_ireturn rfl rfl dX6_can_14 ?_
    exact K_t hK c6 rfl
/-- the state behind changes(x) -/
def chF (a x : Int32) : Int32 := if ¬ a = 0 ∧ ¬ x = 0 then 1 else 0
def chg (t : Tw) (x : Int32) : Tw := tu (tu t 48 0 (chF (t 48 0) x)) 81 0 x
theorem chF_1 {a x : Int32} (h1 : ¬ a = 0) (h2 : ¬ x = 0) : chF a x = 1 := if_pos ⟨h1, h2⟩
theorem chF_a {a x : Int32} (h : a = 0) : chF a x = 0 := if_neg (fun q => q.1 h)
theorem chF_b {a x : Int32} (h : x = 0) : chF a x = 0 := if_neg (fun q => q.2 h)
theorem T_changes (hZ : Bz G) (hρ : Good G ρ) (hf : 1 ≤ f) (x : Int32) (hK : K (.int (if x = 0 then 1 else 0)) (chg t x)) : ClT G ρ mX6_changes f [.ref m, .int x] K m A t := by
  refine ClT.of (lo0 := [some (.ref m), some (.int x)]) (by decide) (by simp [Value.category]) (Nat.le_of_ble_eq_true rfl) rfl ?_
  refine tw_aload_n dX6_changes_0 rfl rfl rfl ?_
  refine tw_aload_n dX6_changes_1 rfl rfl rfl ?_
  refine tw_gets (k := 48) hZ hρ (by decide) (by decide) rfl q2319 dX6_changes_2 ?_
  refine tw_if_eq (tgt := 16) dX6_changes_5 (by decide) (fun c5 => ?_) (fun c5 => ?_)
  · refine tw_iconst (v := (0)) dX6_changes_16 (by decide) ?_
    refine tw_puts (k := 48) hZ hρ (by decide) (by decide) rfl q2319 rfl (narrow_z (Or.inl rfl)) (fits_z (Or.inl rfl)) dX6_changes_17 ?_
    refine tw_aload_n dX6_changes_20 rfl rfl rfl ?_
    refine tw_iload_n dX6_changes_21 rfl rfl ?_
    refine tw_callV (M := mX6_changes) (N := mX6_can) (f' := f - 1) (As := [_]) hZ hρ kX6_can rfl q2542 dX6_changes_22 rfl (by first | exact Nat.le_of_ble_eq_true rfl | simp [Value.category]) rfl (by omega) rfl (T_can hZ hρ x ?_)
    refine tw_ireturn rfl (narrow_z (ite01 _)) dX6_changes_25 ?_
    first | (rw [chg, chF_1 c5 c9] at hK; exact hK) | (rw [chg, chF_a c5] at hK; exact hK) | (rw [chg, chF_b c9] at hK; exact hK)
  · refine tw_iload_n dX6_changes_8 rfl rfl ?_
    refine tw_if_eq (tgt := 16) dX6_changes_9 (by decide) (fun c9 => ?_) (fun c9 => ?_)
    · refine tw_iconst (v := (0)) dX6_changes_16 (by decide) ?_
      refine tw_puts (k := 48) hZ hρ (by decide) (by decide) rfl q2319 rfl (narrow_z (Or.inl rfl)) (fits_z (Or.inl rfl)) dX6_changes_17 ?_
      refine tw_aload_n dX6_changes_20 rfl rfl rfl ?_
      refine tw_iload_n dX6_changes_21 rfl rfl ?_
      refine tw_callV (M := mX6_changes) (N := mX6_can) (f' := f - 1) (As := [_]) hZ hρ kX6_can rfl q2542 dX6_changes_22 rfl (by first | exact Nat.le_of_ble_eq_true rfl | simp [Value.category]) rfl (by omega) rfl (T_can hZ hρ x ?_)
      refine tw_ireturn rfl (narrow_z (ite01 _)) dX6_changes_25 ?_
      first | (rw [chg, chF_1 c5 c9] at hK; exact hK) | (rw [chg, chF_a c5] at hK; exact hK) | (rw [chg, chF_b c9] at hK; exact hK)
    · refine tw_iconst (v := (1)) dX6_changes_12 (by decide) ?_
      refine tw_goto (tgt := 17) dX6_changes_13 (by decide) ?_
      refine tw_puts (k := 48) hZ hρ (by decide) (by decide) rfl q2319 rfl (narrow_z (Or.inr rfl)) (fits_z (Or.inr rfl)) dX6_changes_17 ?_
      refine tw_aload_n dX6_changes_20 rfl rfl rfl ?_
      refine tw_iload_n dX6_changes_21 rfl rfl ?_
      refine tw_callV (M := mX6_changes) (N := mX6_can) (f' := f - 1) (As := [_]) hZ hρ kX6_can rfl q2542 dX6_changes_22 rfl (by first | exact Nat.le_of_ble_eq_true rfl | simp [Value.category]) rfl (by omega) rfl (T_can hZ hρ x ?_)
      refine tw_ireturn rfl (narrow_z (ite01 _)) dX6_changes_25 ?_
      first | (rw [chg, chF_1 c5 c9] at hK; exact hK) | (rw [chg, chF_a c5] at hK; exact hK) | (rw [chg, chF_b c9] at hK; exact hK)
/-- n / 100, rounded down -/
def fdv (x : Int32) : Int32 := if 0 ≤ x ∨ x - x / nI 100 * nI 100 = 0 then x / nI 100 else x / nI 100 - 1
theorem T_down (x : Int32) (hK : K (.int (fdv x)) t) : ClT G ρ mX6_down f [.int x, .int (nI 100)] K m A t := by
  refine ClT.of (lo0 := [some (.int x), some (.int (nI 100))]) (by decide) (by simp [Value.category]) (Nat.le_of_ble_eq_true rfl) rfl ?_
  refine tw_iload_n dX6_down_0 rfl rfl ?_
  refine tw_if_ge (tgt := 10) dX6_down_1 (by decide) (fun c1 => ?_) (fun c1 => ?_)
  · refine tw_iload_n dX6_down_10 rfl rfl ?_
    refine tw_iload_n dX6_down_11 rfl rfl ?_
    refine tw_idiv dX6_down_12 (by first | decide | assumption) ?_
    refine tw_goto (tgt := 21) dX6_down_13 (by decide) ?_
    refine tw_ireturn rfl rfl dX6_down_21 ?_
    first | (rw [fdv, if_pos (Or.inl c1)] at hK; exact hK) | (rw [fdv, if_pos (Or.inr c7)] at hK; exact hK) | (rw [fdv, if_neg (fun q => q.elim c1 c7)] at hK; exact hK)
  · refine tw_iload_n dX6_down_4 rfl rfl ?_
    refine tw_iload_n dX6_down_5 rfl rfl ?_
    refine tw_irem dX6_down_6 (by first | decide | assumption) ?_
    refine tw_if_ne (tgt := 16) dX6_down_7 (by decide) (fun c7 => ?_) (fun c7 => ?_)
    · refine tw_iload_n dX6_down_16 rfl rfl ?_
      refine tw_iload_n dX6_down_17 rfl rfl ?_
      refine tw_idiv dX6_down_18 (by first | decide | assumption) ?_
      refine tw_iconst (v := (1)) dX6_down_19 (by decide) ?_
      refine tw_isub dX6_down_20 ?_
      refine tw_ireturn rfl rfl dX6_down_21 ?_
      first | (rw [fdv, if_pos (Or.inl c1)] at hK; exact hK) | (rw [fdv, if_pos (Or.inr c7)] at hK; exact hK) | (rw [fdv, if_neg (fun q => q.elim c1 c7)] at hK; exact hK)
    · refine tw_iload_n dX6_down_10 rfl rfl ?_
      refine tw_iload_n dX6_down_11 rfl rfl ?_
      refine tw_idiv dX6_down_12 (by first | decide | assumption) ?_
      refine tw_goto (tgt := 21) dX6_down_13 (by decide) ?_
      refine tw_ireturn rfl rfl dX6_down_21 ?_
      first | (rw [fdv, if_pos (Or.inl c1)] at hK; exact hK) | (rw [fdv, if_pos (Or.inr c7)] at hK; exact hK) | (rw [fdv, if_neg (fun q => q.elim c1 c7)] at hK; exact hK)
def isEl (t : Tw) (x : Int32) : Prop := (0 ≤ x ∧ x ≤ 15) ∧ ¬ t 0 x.toNatClampNeg = 0
theorem isEl_of {x : Int32} (h : 0 ≤ x ∧ x ≤ 15) : ∃ e, e < 16 ∧ x = nI e := by
  obtain ⟨j, h1, h2⟩ := nI_of2 (x := x) (M := 15) (n := 15) (by decide) (Int32.not_lt.mpr h.1) h.2
  exact ⟨j, by omega, h2⟩
theorem T_isElement (hZ : Bz G) (hρ : Good G ρ) (hf : 1 ≤ f) (x : Int32) [Decidable (isEl t x)] (hK : K (.int (if isEl t x then 1 else 0)) t) : ClT G ρ mX6_isElement f [.ref m, .int x] K m A t := by
  refine ClT.of (lo0 := [some (.ref m), some (.int x)]) (by decide) (by simp [Value.category]) (Nat.le_of_ble_eq_true rfl) rfl ?_
  refine tw_iload_n dX6_isElement_0 rfl rfl ?_
  refine tw_iconst (v := (0)) dX6_isElement_1 (by decide) ?_
  refine tw_bipush (v := (15)) dX6_isElement_2 (by decide) ?_
  refine tw_callS (M := mX6_isElement) (N := mX6_isIn) (f' := f - 1) (As := [_, _, _]) kX6_isIn q2531 dX6_isElement_4 rfl (by first | exact Nat.le_of_ble_eq_true rfl | simp [Value.category]) rfl (by omega) rfl (T_isIn _ _ _ ?_)
  refine tw_if_eqB (tgt := 23) dX6_isElement_7 (by decide) (fun c7 => ?_) (fun c7 => ?_)
  · refine tw_iconst (v := (0)) dX6_isElement_23 (by decide) ?_
    refine tw_ireturn rfl rfl dX6_isElement_24 ?_
    exact K_f hK (fun q => by first | exact absurd q.1 c7 | exact absurd (by rw [nI_cl (by omega)]; exact c16) q.2) rfl
  · obtain ⟨e, he, rfl⟩ := isEl_of c7
    refine tw_aload_n dX6_isElement_10 rfl rfl rfl ?_
    refine tw_geta (k := 0) hZ hρ (by decide) rfl q2271 dX6_isElement_11 ?_
    refine tw_iload_n dX6_isElement_14 rfl rfl ?_
    refine tw_zald (k := 0) hZ hρ (by decide) (by show _ < 16; omega) dX6_isElement_15 ?_
    refine tw_if_eq (tgt := 23) dX6_isElement_16 (by decide) (fun c16 => ?_) (fun c16 => ?_)
    · refine tw_iconst (v := (0)) dX6_isElement_23 (by decide) ?_
      refine tw_ireturn rfl rfl dX6_isElement_24 ?_
      exact K_f hK (fun q => by first | exact absurd q.1 c7 | exact absurd (by rw [nI_cl (by omega)]; exact c16) q.2) rfl
    · refine tw_iconst (v := (1)) dX6_isElement_19 (by decide) ?_
      refine tw_goto (tgt := 24) dX6_isElement_20 (by decide) ?_
      refine tw_ireturn rfl rfl dX6_isElement_24 ?_
      exact K_t hK ⟨c7, by rw [nI_cl (by omega)]; exact c16⟩ rfl
theorem T_isSelector (hZ : Bz G) (hρ : Good G ρ) (hf : 1 ≤ f) (x : Int32) (hK : K (.int (if 0 ≤ x ∧ x ≤ t 10 0 - 1 then 1 else 0)) t) : ClT G ρ mX6_isSelector f [.ref m, .int x] K m A t := by
  refine ClT.of (lo0 := [some (.ref m), some (.int x)]) (by decide) (by simp [Value.category]) (Nat.le_of_ble_eq_true rfl) rfl ?_
  refine tw_iload_n dX6_isSelector_0 rfl rfl ?_
  refine tw_iconst (v := (0)) dX6_isSelector_1 (by decide) ?_
  refine tw_aload_n dX6_isSelector_2 rfl rfl rfl ?_
  refine tw_gets (k := 10) hZ hρ (by decide) (by decide) rfl q2281 dX6_isSelector_3 ?_
  refine tw_iconst (v := (1)) dX6_isSelector_6 (by decide) ?_
  refine tw_isub dX6_isSelector_7 ?_
  refine tw_callS (M := mX6_isSelector) (N := mX6_isIn) (f' := f - 1) (As := [_, _, _]) kX6_isIn q2531 dX6_isSelector_8 rfl (by first | exact Nat.le_of_ble_eq_true rfl | simp [Value.category]) rfl (by omega) rfl (T_isIn _ _ _ ?_)
  refine tw_ireturn rfl (narrow_z (ite01 _)) dX6_isSelector_11 ?_
  exact hK
theorem T_isValue (hZ : Bz G) (hρ : Good G ρ) (hf : 1 ≤ f) (x : Int32) (hK : K (.int (if 0 ≤ x ∧ x ≤ t 19 0 - 1 then 1 else 0)) t) : ClT G ρ mX6_isValue f [.ref m, .int x] K m A t := by
  refine ClT.of (lo0 := [some (.ref m), some (.int x)]) (by decide) (by simp [Value.category]) (Nat.le_of_ble_eq_true rfl) rfl ?_
  refine tw_iload_n dX6_isValue_0 rfl rfl ?_
  refine tw_iconst (v := (0)) dX6_isValue_1 (by decide) ?_
  refine tw_aload_n dX6_isValue_2 rfl rfl rfl ?_
  refine tw_gets (k := 19) hZ hρ (by decide) (by decide) rfl q2290 dX6_isValue_3 ?_
  refine tw_iconst (v := (1)) dX6_isValue_6 (by decide) ?_
  refine tw_isub dX6_isValue_7 ?_
  refine tw_callS (M := mX6_isValue) (N := mX6_isIn) (f' := f - 1) (As := [_, _, _]) kX6_isIn q2531 dX6_isValue_8 rfl (by first | exact Nat.le_of_ble_eq_true rfl | simp [Value.category]) rfl (by omega) rfl (T_isIn _ _ _ ?_)
  refine tw_ireturn rfl (narrow_z (ite01 _)) dX6_isValue_11 ?_
  exact hK
end Tw1
