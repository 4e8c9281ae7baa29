/-! THE TWIN, part 3: clears, takesOut, putsIn -/
set_option maxRecDepth 100000
section Tw3
variable {G : Gv} {ρ : Hp → Heap → Prop} {f : Nat} {K : Value → Tw → Prop} {m : Nat} {A : Nat → Nat} {t : Tw}

/-- field k at a .. b - 1 is filled with x -/
def fl (t : Tw) (k a b : Nat) (x : Int32) : Tw := fun q i => if q = k ∧ a ≤ i ∧ i < b then x else t q i
theorem fl_0 (t : Tw) (k a : Nat) (x : Int32) : fl t k a a x = t := by
  funext q i
  exact if_neg (fun z => by omega)
theorem fl_s (t : Tw) {k a b : Nat} (x : Int32) (h : a ≤ b) : tu (fl t k a b x) k b x = fl t k a (b + 1) x := by
  funext q i
  unfold tu fl
  by_cases e : q = k ∧ i = b
  · rw [if_pos e, if_pos ⟨e.1, by omega, by omega⟩]
  · rw [if_neg e]
    by_cases e2 : q = k ∧ a ≤ i ∧ i < b
    · rw [if_pos e2, if_pos ⟨e2.1, e2.2.1, by omega⟩]
    · rw [if_neg e2, if_neg (fun z => e2 ⟨z.1, z.2.1, by
        have := z.2.2
        have : i ≠ b := fun q' => e ⟨z.1, q'⟩
        omega⟩)]
/-- the children's row, moved down over a .. b - 1; moved up over lo + 1 .. hi -/
def shD (t : Tw) (a b : Nat) : Tw := fun q i => if q = 3 ∧ a ≤ i ∧ i < b then t 3 (i + 1) else t q i
def shU (t : Tw) (lo hi : Nat) : Tw := fun q i => if q = 3 ∧ lo < i ∧ i ≤ hi then t 3 (i - 1) else t q i
theorem shD_0 (t : Tw) (a : Nat) : shD t a a = t := by
  funext q i
  exact if_neg (fun z => by omega)
theorem shD_s (t : Tw) {a b : Nat} (h : a ≤ b) : tu (shD t a b) 3 b (shD t a b 3 (b + 1)) = shD t a (b + 1) := by
  funext q i
  have e0 : shD t a b 3 (b + 1) = t 3 (b + 1) := if_neg (fun z => by omega)
  rw [e0]
  unfold tu shD
  by_cases e : q = 3 ∧ i = b
  · obtain ⟨rfl, rfl⟩ := e
    rw [if_pos ⟨rfl, rfl⟩, if_pos ⟨rfl, by omega, by omega⟩]
  · rw [if_neg e]
    by_cases e2 : q = 3 ∧ a ≤ i ∧ i < b
    · rw [if_pos e2, if_pos ⟨e2.1, e2.2.1, by omega⟩]
    · rw [if_neg e2, if_neg (fun z => e2 ⟨z.1, z.2.1, by
        have := z.2.2
        have : i ≠ b := fun q' => e ⟨z.1, q'⟩
        omega⟩)]
theorem shU_0 (t : Tw) (a : Nat) : shU t a a = t := by
  funext q i
  exact if_neg (fun z => by omega)
theorem shU_s (t : Tw) {lo hi : Nat} (h : lo < hi) : tu (shU t (lo + 1) hi) 3 (lo + 1) (shU t (lo + 1) hi 3 lo) = shU t lo hi := by
  funext q i
  have e0 : shU t (lo + 1) hi 3 lo = t 3 lo := if_neg (fun z => by omega)
  rw [e0]
  unfold tu shU
  by_cases e : q = 3 ∧ i = lo + 1
  · obtain ⟨rfl, rfl⟩ := e
    rw [if_pos ⟨rfl, rfl⟩, if_pos ⟨rfl, by omega, by omega⟩]
    rfl
  · rw [if_neg e]
    by_cases e2 : q = 3 ∧ lo + 1 < i ∧ i ≤ hi
    · rw [if_pos e2, if_pos ⟨e2.1, by omega, e2.2.2⟩]
    · rw [if_neg e2, if_neg (fun z => e2 ⟨z.1, by
        have := z.2.1
        have : i ≠ lo + 1 := fun q' => e ⟨z.1, q'⟩
        omega, z.2.2⟩)]
theorem T_placeOf_lp (hZ : Bz G) (hρ : Good G ρ) {e p q : Nat} (hp : t 1 e = nI p) (hp16 : p < 16) (he : e < 16) (h0 : e ≠ 0) (hq : q < 16) (heq : t 3 (16 * p + q) = nI e) (hne : ∀ j, j < q → ¬ t 3 (16 * p + j) = nI e) (hK : K (.int (nI q)) t) : ∀ n j, j + n = q → AtT G ρ mX6_placeOf f K m A 2 [some (.ref m), some (.int (nI e)), some (.int (nI j))] [] t := by
  intro n
  induction n with
  | zero =>
    intro j hj
    have ej : j = q := by omega
    subst ej
    refine tw_iload_n dX6_placeOf_2 rfl rfl ?_
    refine tw_if_eq (tgt := 32) dX6_placeOf_3 (by decide) (fun c3 => ?_) (fun c3 => ?_)
    · refine tw_iload_n dX6_placeOf_32 rfl rfl ?_
      refine tw_ireturn rfl rfl dX6_placeOf_33 ?_
      exact hK
    · refine tw_aload_n dX6_placeOf_6 rfl rfl rfl ?_
      refine tw_geta (k := 3) hZ hρ (by decide) rfl q2274 dX6_placeOf_7 ?_
      refine tw_bipush (v := nI 16) dX6_placeOf_10 (by decide) ?_
      refine tw_aload_n dX6_placeOf_12 rfl rfl rfl ?_
      refine tw_geta (k := 1) hZ hρ (by decide) rfl q2272 dX6_placeOf_13 ?_
      refine tw_iload_n dX6_placeOf_16 rfl rfl ?_
      refine tw_iald (k := 1) hZ hρ (by decide) (by show _ < 16; omega) dX6_placeOf_17 ?_
      rw [hp]
      refine tw_imulN dX6_placeOf_18 ?_
      refine tw_iload_n dX6_placeOf_19 rfl rfl ?_
      refine tw_iaddN dX6_placeOf_20 ?_
      refine tw_iald (k := 3) hZ hρ (by decide) (by show _ < 256; omega) dX6_placeOf_21 ?_
      refine tw_iload_n dX6_placeOf_22 rfl rfl ?_
      refine tw_icmp_eq (tgt := 32) dX6_placeOf_23 (by decide) (fun c23 => ?_) (fun c23 => ?_)
      · refine tw_iload_n dX6_placeOf_32 rfl rfl ?_
        refine tw_ireturn rfl rfl dX6_placeOf_33 ?_
        exact hK
      · exact absurd heq c23
  | succ n ih =>
    intro j hj
    have hnj := hne j (by omega)
    refine tw_iload_n dX6_placeOf_2 rfl rfl ?_
    refine tw_if_eq (tgt := 32) dX6_placeOf_3 (by decide) (fun c3 => ?_) (fun c3 => ?_)
    · refine tw_iload_n dX6_placeOf_32 rfl rfl ?_
      refine tw_ireturn rfl rfl dX6_placeOf_33 ?_
      first | exact absurd (nI_z (by omega) c3) h0 | exact absurd c23 hnj
    · refine tw_aload_n dX6_placeOf_6 rfl rfl rfl ?_
      refine tw_geta (k := 3) hZ hρ (by decide) rfl q2274 dX6_placeOf_7 ?_
      refine tw_bipush (v := nI 16) dX6_placeOf_10 (by decide) ?_
      refine tw_aload_n dX6_placeOf_12 rfl rfl rfl ?_
      refine tw_geta (k := 1) hZ hρ (by decide) rfl q2272 dX6_placeOf_13 ?_
      refine tw_iload_n dX6_placeOf_16 rfl rfl ?_
      refine tw_iald (k := 1) hZ hρ (by decide) (by show _ < 16; omega) dX6_placeOf_17 ?_
      rw [hp]
      refine tw_imulN dX6_placeOf_18 ?_
      refine tw_iload_n dX6_placeOf_19 rfl rfl ?_
      refine tw_iaddN dX6_placeOf_20 ?_
      refine tw_iald (k := 3) hZ hρ (by decide) (by show _ < 256; omega) dX6_placeOf_21 ?_
      refine tw_iload_n dX6_placeOf_22 rfl rfl ?_
      refine tw_icmp_eq (tgt := 32) dX6_placeOf_23 (by decide) (fun c23 => ?_) (fun c23 => ?_)
      · refine tw_iload_n dX6_placeOf_32 rfl rfl ?_
        refine tw_ireturn rfl rfl dX6_placeOf_33 ?_
        first | exact absurd (nI_z (by omega) c3) h0 | exact absurd c23 hnj
      · refine tw_iinc1 (lo' := [_, _, _]) dX6_placeOf_26 rfl (by decide) rfl ?_
        refine tw_goto (tgt := 2) dX6_placeOf_29 (by decide) ?_
        exact ih (j + 1) (by omega)
theorem T_placeOfG (hZ : Bz G) (hρ : Good G ρ) {e p q : Nat} (hp : t 1 e = nI p) (hp16 : p < 16) (he : e < 16) (h0 : e ≠ 0) (hq : q < 16) (heq : t 3 (16 * p + q) = nI e) (hne : ∀ j, j < q → ¬ t 3 (16 * p + j) = nI e) (hK : K (.int (nI q)) t) : ClT G ρ mX6_placeOf f [.ref m, .int (nI e)] K m A t := by
  refine ClT.of (lo0 := [some (.ref m), some (.int (nI e)), none]) (by decide) (by simp [Value.category]) (Nat.le_of_ble_eq_true rfl) rfl ?_
  refine tw_iconst (v := nI 0) dX6_placeOf_0 (by decide) ?_
  refine tw_istore_n (lo' := [_, _, _]) dX6_placeOf_1 rfl (by decide) rfl ?_
  exact T_placeOf_lp hZ hρ hp hp16 he h0 hq heq hne hK q 0 (by omega)
/-- the state behind clears(e) -/
def clr (t : Tw) (e : Nat) : Tw := fl (fl (tu (tu (tu (tu (tu (tu (tu t 2 e (nI 0)) 4 e (nI 0)) 5 e (-1)) 6 e (nI 0)) 7 e (nI 0)) 9 e (nI 0)) 43 e (nI 0)) 8 (4 * e) (4 * e + 4) (-1)) 47 (20 * e) (20 * (e + 1)) (-1)
theorem for_up {P : Nat → Prop} (n : Nat) (hx : P n) (hs : ∀ j, j < n → P (j + 1) → P j) : ∀ j, j ≤ n → P j := by
  intro j hj
  obtain ⟨d, hd⟩ : ∃ d, d = n - j := ⟨_, rfl⟩
  induction d generalizing j with
  | zero =>
    have : j = n := by omega
    rw [this]; exact hx
  | succ d ih => exact hs j (by omega) (ih (j + 1) (by omega) (by omega))
theorem T_clears (hZ : Bz G) (hρ : Good G ρ) {e : Nat} (he : e < 16) (hK : K .null (clr t e)) : ClT G ρ mX6_clears f [.ref m, .int (nI e)] K m A t := by
  refine ClT.of (lo0 := [some (.ref m), some (.int (nI e)), none]) (by decide) (by simp [Value.category]) (Nat.le_of_ble_eq_true rfl) rfl ?_
  refine tw_aload_n dX6_clears_0 rfl rfl rfl ?_
  refine tw_geta (k := 2) hZ hρ (by decide) rfl q2273 dX6_clears_1 ?_
  refine tw_iload_n dX6_clears_4 rfl rfl ?_
  refine tw_iconst (v := nI 0) dX6_clears_5 (by decide) ?_
  refine tw_iast (k := 2) hZ hρ (by decide) (by show _ < 16; omega) dX6_clears_6 ?_
  refine tw_aload_n dX6_clears_7 rfl rfl rfl ?_
  refine tw_geta (k := 4) hZ hρ (by decide) rfl q2275 dX6_clears_8 ?_
  refine tw_iload_n dX6_clears_11 rfl rfl ?_
  refine tw_iconst (v := nI 0) dX6_clears_12 (by decide) ?_
  refine tw_iast (k := 4) hZ hρ (by decide) (by show _ < 16; omega) dX6_clears_13 ?_
  refine tw_aload_n dX6_clears_14 rfl rfl rfl ?_
  refine tw_geta (k := 5) hZ hρ (by decide) rfl q2276 dX6_clears_15 ?_
  refine tw_iload_n dX6_clears_18 rfl rfl ?_
  refine tw_iconst (v := (-1)) dX6_clears_19 (by decide) ?_
  refine tw_iast (k := 5) hZ hρ (by decide) (by show _ < 16; omega) dX6_clears_20 ?_
  refine tw_aload_n dX6_clears_21 rfl rfl rfl ?_
  refine tw_geta (k := 6) hZ hρ (by decide) rfl q2277 dX6_clears_22 ?_
  refine tw_iload_n dX6_clears_25 rfl rfl ?_
  refine tw_iconst (v := nI 0) dX6_clears_26 (by decide) ?_
  refine tw_iast (k := 6) hZ hρ (by decide) (by show _ < 16; omega) dX6_clears_27 ?_
  refine tw_aload_n dX6_clears_28 rfl rfl rfl ?_
  refine tw_geta (k := 7) hZ hρ (by decide) rfl q2278 dX6_clears_29 ?_
  refine tw_iload_n dX6_clears_32 rfl rfl ?_
  refine tw_iconst (v := nI 0) dX6_clears_33 (by decide) ?_
  refine tw_iast (k := 7) hZ hρ (by decide) (by show _ < 16; omega) dX6_clears_34 ?_
  refine tw_aload_n dX6_clears_35 rfl rfl rfl ?_
  refine tw_geta (k := 9) hZ hρ (by decide) rfl q2280 dX6_clears_36 ?_
  refine tw_iload_n dX6_clears_39 rfl rfl ?_
  refine tw_iconst (v := nI 0) dX6_clears_40 (by decide) ?_
  refine tw_zast (k := 9) hZ hρ (by decide) (by show _ < 16; omega) (Or.inl rfl) dX6_clears_41 ?_
  refine tw_aload_n dX6_clears_42 rfl rfl rfl ?_
  refine tw_geta (k := 43) hZ hρ (by decide) rfl q2314 dX6_clears_43 ?_
  refine tw_iload_n dX6_clears_46 rfl rfl ?_
  refine tw_iconst (v := nI 0) dX6_clears_47 (by decide) ?_
  refine tw_iast (k := 43) hZ hρ (by decide) (by show _ < 16; omega) dX6_clears_48 ?_
  refine tw_iconst (v := nI 4) dX6_clears_49 (by decide) ?_
  refine tw_iload_n dX6_clears_50 rfl rfl ?_
  refine tw_imulN dX6_clears_51 ?_
  refine tw_istore_n (lo' := [_, _, _]) dX6_clears_52 rfl (by decide) rfl ?_
  obtain ⟨t0, e0⟩ : ∃ t0, t0 = (tu (tu (tu (tu (tu (tu (tu t 2 e (nI 0)) 4 e (nI 0)) 5 e (-1)) 6 e (nI 0)) 7 e (nI 0)) 9 e (nI 0)) 43 e (nI 0)) := ⟨_, rfl⟩
  obtain ⟨t1, e1⟩ : ∃ t1, t1 = fl t0 8 (4 * e) (4 * e + 4) (-1) := ⟨_, rfl⟩
  rw [clr, ← e0, ← e1] at hK
  rw [← e0]
  have key1 : ∀ j, j ≤ 4 → AtT G ρ mX6_clears f K m A 53 [some (.ref m), some (.int (nI e)), some (.int (nI (4 * e + j)))] [] (fl t0 8 (4 * e) (4 * e + j) (-1)) := by
    refine for_up (P := fun j => AtT G ρ mX6_clears f K m A 53 [some (.ref m), some (.int (nI e)), some (.int (nI (4 * e + j)))] [] (fl t0 8 (4 * e) (4 * e + j) (-1))) (4) ?_ ?_
    · refine tw_iload_n dX6_clears_53 rfl rfl ?_
      refine tw_iconst (v := nI 4) dX6_clears_54 (by decide) ?_
      refine tw_iload_n dX6_clears_55 rfl rfl ?_
      refine tw_imulN dX6_clears_56 ?_
      refine tw_iconst (v := nI 4) dX6_clears_57 (by decide) ?_
      refine tw_iaddN dX6_clears_58 ?_
      refine tw_icmp_geN (tgt := 75) (by omega) (by omega) dX6_clears_59 (by decide) (fun c59 => ?_) (fun c59 => ?_)
      · refine tw_bipush (v := nI 20) dX6_clears_75 (by decide) ?_
        refine tw_iload_n dX6_clears_77 rfl rfl ?_
        refine tw_imulN dX6_clears_78 ?_
        refine tw_istore_n (lo' := [_, _, _]) dX6_clears_79 rfl (by decide) rfl ?_
        have key2 : ∀ j, j ≤ 20 → AtT G ρ mX6_clears f K m A 80 [some (.ref m), some (.int (nI e)), some (.int (nI (20 * e + j)))] [] (fl t1 47 (20 * e) (20 * e + j) (-1)) := by
          refine for_up (P := fun j => AtT G ρ mX6_clears f K m A 80 [some (.ref m), some (.int (nI e)), some (.int (nI (20 * e + j)))] [] (fl t1 47 (20 * e) (20 * e + j) (-1))) (20) ?_ ?_
          · refine tw_iload_n dX6_clears_80 rfl rfl ?_
            refine tw_bipush (v := nI 20) dX6_clears_81 (by decide) ?_
            refine tw_iload_n dX6_clears_83 rfl rfl ?_
            refine tw_iconst (v := nI 1) dX6_clears_84 (by decide) ?_
            refine tw_iaddN dX6_clears_85 ?_
            refine tw_imulN dX6_clears_86 ?_
            refine tw_icmp_geN (tgt := 103) (by omega) (by omega) dX6_clears_87 (by decide) (fun c87 => ?_) (fun c87 => ?_)
            · refine tw_return rfl dX6_clears_103 ?_
              exact hK
            · exact absurd c87 (by omega)
          · intro j hj ih
            refine tw_iload_n dX6_clears_80 rfl rfl ?_
            refine tw_bipush (v := nI 20) dX6_clears_81 (by decide) ?_
            refine tw_iload_n dX6_clears_83 rfl rfl ?_
            refine tw_iconst (v := nI 1) dX6_clears_84 (by decide) ?_
            refine tw_iaddN dX6_clears_85 ?_
            refine tw_imulN dX6_clears_86 ?_
            refine tw_icmp_geN (tgt := 103) (by omega) (by omega) dX6_clears_87 (by decide) (fun c87 => ?_) (fun c87 => ?_)
            · exact absurd c87 (by omega)
            · refine tw_aload_n dX6_clears_90 rfl rfl rfl ?_
              refine tw_geta (k := 47) hZ hρ (by decide) rfl q2318 dX6_clears_91 ?_
              refine tw_iload_n dX6_clears_94 rfl rfl ?_
              refine tw_iconst (v := (-1)) dX6_clears_95 (by decide) ?_
              refine tw_iast (k := 47) hZ hρ (by decide) (by show _ < 320; omega) dX6_clears_96 ?_
              refine tw_iinc1 (lo' := [_, _, _]) dX6_clears_97 rfl (by decide) rfl ?_
              refine tw_goto (tgt := 80) dX6_clears_100 (by decide) ?_
              rw [fl_s _ _ (by omega)]
              exact ih
        have k0 := key2 0 (by omega)
        rw [Nat.add_zero, fl_0] at k0
        rw [← e1]
        exact k0
      · exact absurd c59 (by omega)
    · intro j hj ih
      refine tw_iload_n dX6_clears_53 rfl rfl ?_
      refine tw_iconst (v := nI 4) dX6_clears_54 (by decide) ?_
      refine tw_iload_n dX6_clears_55 rfl rfl ?_
      refine tw_imulN dX6_clears_56 ?_
      refine tw_iconst (v := nI 4) dX6_clears_57 (by decide) ?_
      refine tw_iaddN dX6_clears_58 ?_
      refine tw_icmp_geN (tgt := 75) (by omega) (by omega) dX6_clears_59 (by decide) (fun c59 => ?_) (fun c59 => ?_)
      · exact absurd c59 (by omega)
      · refine tw_aload_n dX6_clears_62 rfl rfl rfl ?_
        refine tw_geta (k := 8) hZ hρ (by decide) rfl q2279 dX6_clears_63 ?_
        refine tw_iload_n dX6_clears_66 rfl rfl ?_
        refine tw_iconst (v := (-1)) dX6_clears_67 (by decide) ?_
        refine tw_iast (k := 8) hZ hρ (by decide) (by show _ < 64; omega) dX6_clears_68 ?_
        refine tw_iinc1 (lo' := [_, _, _]) dX6_clears_69 rfl (by decide) rfl ?_
        refine tw_goto (tgt := 53) dX6_clears_72 (by decide) ?_
        rw [fl_s _ _ (by omega)]
        exact ih
  have k0 := key1 0 (by omega)
  rw [Nat.add_zero, fl_0] at k0
  exact k0
theorem T_takesOut (hZ : Bz G) (hρ : Good G ρ) (hf : 1 ≤ f) {e p q n : Nat} (hp : t 1 e = nI p) (hp16 : p < 16) (he : e < 16) (h0 : e ≠ 0) (hn : t 2 p = nI n) (hn16 : n < 16) (hq : q < n) (heq : t 3 (16 * p + q) = nI e) (hne : ∀ j, j < q → ¬ t 3 (16 * p + j) = nI e) (hK : K .null (shD (tu t 2 p (nI (n - 1))) (16 * p + q) (16 * p + (n - 1)))) : ClT G ρ mX6_takesOut f [.ref m, .int (nI e)] K m A t := by
  refine ClT.of (lo0 := [some (.ref m), some (.int (nI e)), none, none]) (by decide) (by simp [Value.category]) (Nat.le_of_ble_eq_true rfl) rfl ?_
  refine tw_bipush (v := nI 16) dX6_takesOut_0 (by decide) ?_
  refine tw_aload_n dX6_takesOut_2 rfl rfl rfl ?_
  refine tw_geta (k := 1) hZ hρ (by decide) rfl q2272 dX6_takesOut_3 ?_
  refine tw_iload_n dX6_takesOut_6 rfl rfl ?_
  refine tw_iald (k := 1) hZ hρ (by decide) (by show _ < 16; omega) dX6_takesOut_7 ?_
  rw [hp]
  refine tw_imulN dX6_takesOut_8 ?_
  refine tw_istore_n (lo' := [_, _, _, _]) dX6_takesOut_9 rfl (by decide) rfl ?_
  refine tw_aload_n dX6_takesOut_10 rfl rfl rfl ?_
  refine tw_geta (k := 2) hZ hρ (by decide) rfl q2273 dX6_takesOut_11 ?_
  refine tw_aload_n dX6_takesOut_14 rfl rfl rfl ?_
  refine tw_geta (k := 1) hZ hρ (by decide) rfl q2272 dX6_takesOut_15 ?_
  refine tw_iload_n dX6_takesOut_18 rfl rfl ?_
  refine tw_iald (k := 1) hZ hρ (by decide) (by show _ < 16; omega) dX6_takesOut_19 ?_
  rw [hp]
  refine tw_dup2 dX6_takesOut_20 rfl rfl ?_
  refine tw_iald (k := 2) hZ hρ (by decide) (by show _ < 16; omega) dX6_takesOut_21 ?_
  rw [hn]
  refine tw_iconst (v := nI 1) dX6_takesOut_22 (by decide) ?_
  refine tw_isubN (by omega) dX6_takesOut_23 ?_
  refine tw_iast (k := 2) hZ hρ (by decide) (by show _ < 16; omega) dX6_takesOut_24 ?_
  refine tw_aload_n dX6_takesOut_25 rfl rfl rfl ?_
  refine tw_iload_n dX6_takesOut_26 rfl rfl ?_
  refine tw_callV (M := mX6_takesOut) (N := mX6_placeOf) (f' := f - 1) (As := [_]) hZ hρ kX6_placeOf rfl q2562 dX6_takesOut_27 rfl (by first | exact Nat.le_of_ble_eq_true rfl | simp [Value.category]) rfl (by omega) rfl (T_placeOfG hZ hρ (p := p) (q := q) hp hp16 he h0 (by omega) heq hne ?_)
  refine tw_istore_n (lo' := [_, _, _, _]) dX6_takesOut_30 rfl (by decide) rfl ?_
  have key3 : ∀ j, j ≤ n - 1 - q → AtT G ρ mX6_takesOut f K m A 31 [some (.ref m), some (.int (nI e)), some (.int (nI (16 * p))), some (.int (nI (q + j)))] [] (shD (tu t 2 p (nI (n - 1))) (16 * p + q) (16 * p + (q + j))) := by
    refine for_up (P := fun j => AtT G ρ mX6_takesOut f K m A 31 [some (.ref m), some (.int (nI e)), some (.int (nI (16 * p))), some (.int (nI (q + j)))] [] (shD (tu t 2 p (nI (n - 1))) (16 * p + q) (16 * p + (q + j)))) (n - 1 - q) ?_ ?_
    · refine tw_iload_n dX6_takesOut_31 rfl rfl ?_
      refine tw_aload_n dX6_takesOut_32 rfl rfl rfl ?_
      refine tw_geta (k := 2) hZ hρ (by decide) rfl q2273 dX6_takesOut_33 ?_
      refine tw_aload_n dX6_takesOut_36 rfl rfl rfl ?_
      refine tw_geta (k := 1) hZ hρ (by decide) rfl q2272 dX6_takesOut_37 ?_
      refine tw_iload_n dX6_takesOut_40 rfl rfl ?_
      refine tw_iald (k := 1) hZ hρ (by decide) (by show _ < 16; omega) dX6_takesOut_41 ?_
      rw [show shD (tu t 2 p (nI (n - 1))) (16 * p + q) (16 * p + (q + (n - 1 - q))) 1 e = nI p from hp]
      refine tw_iald (k := 2) hZ hρ (by decide) (by show _ < 16; omega) dX6_takesOut_42 ?_
      rw [show shD (tu t 2 p (nI (n - 1))) (16 * p + q) (16 * p + (q + (n - 1 - q))) 2 p = nI (n - 1) from tu_eq _ _ _ _]
      refine tw_icmp_geN (tgt := 70) (by omega) (by omega) dX6_takesOut_43 (by decide) (fun c43 => ?_) (fun c43 => ?_)
      · refine tw_return rfl dX6_takesOut_70 ?_
        rw [show q + (n - 1 - q) = n - 1 by omega]
        exact hK
      · exact absurd c43 (by omega)
    · intro j hj ih
      refine tw_iload_n dX6_takesOut_31 rfl rfl ?_
      refine tw_aload_n dX6_takesOut_32 rfl rfl rfl ?_
      refine tw_geta (k := 2) hZ hρ (by decide) rfl q2273 dX6_takesOut_33 ?_
      refine tw_aload_n dX6_takesOut_36 rfl rfl rfl ?_
      refine tw_geta (k := 1) hZ hρ (by decide) rfl q2272 dX6_takesOut_37 ?_
      refine tw_iload_n dX6_takesOut_40 rfl rfl ?_
      refine tw_iald (k := 1) hZ hρ (by decide) (by show _ < 16; omega) dX6_takesOut_41 ?_
      rw [show shD (tu t 2 p (nI (n - 1))) (16 * p + q) (16 * p + (q + j)) 1 e = nI p from hp]
      refine tw_iald (k := 2) hZ hρ (by decide) (by show _ < 16; omega) dX6_takesOut_42 ?_
      rw [show shD (tu t 2 p (nI (n - 1))) (16 * p + q) (16 * p + (q + j)) 2 p = nI (n - 1) from tu_eq _ _ _ _]
      refine tw_icmp_geN (tgt := 70) (by omega) (by omega) dX6_takesOut_43 (by decide) (fun c43 => ?_) (fun c43 => ?_)
      · exact absurd c43 (by omega)
      · refine tw_aload_n dX6_takesOut_46 rfl rfl rfl ?_
        refine tw_geta (k := 3) hZ hρ (by decide) rfl q2274 dX6_takesOut_47 ?_
        refine tw_iload_n dX6_takesOut_50 rfl rfl ?_
        refine tw_iload_n dX6_takesOut_51 rfl rfl ?_
        refine tw_iaddN dX6_takesOut_52 ?_
        refine tw_aload_n dX6_takesOut_53 rfl rfl rfl ?_
        refine tw_geta (k := 3) hZ hρ (by decide) rfl q2274 dX6_takesOut_54 ?_
        refine tw_iload_n dX6_takesOut_57 rfl rfl ?_
        refine tw_iload_n dX6_takesOut_58 rfl rfl ?_
        refine tw_iaddN dX6_takesOut_59 ?_
        refine tw_iconst (v := nI 1) dX6_takesOut_60 (by decide) ?_
        refine tw_iaddN dX6_takesOut_61 ?_
        refine tw_iald (k := 3) hZ hρ (by decide) (by show _ < 256; omega) dX6_takesOut_62 ?_
        refine tw_iast (k := 3) hZ hρ (by decide) (by show _ < 256; omega) dX6_takesOut_63 ?_
        refine tw_iinc1 (lo' := [_, _, _, _]) dX6_takesOut_64 rfl (by decide) rfl ?_
        refine tw_goto (tgt := 31) dX6_takesOut_67 (by decide) ?_
        rw [shD_s _ (by omega)]
        exact ih
  have k0 := key3 0 (by omega)
  rw [Nat.add_zero, shD_0] at k0
  exact k0
theorem for_dn {P : Nat → Prop} (h0 : P 0) (hs : ∀ j n, j < n → P j → P (j + 1)) : ∀ j, P j := by
  intro j
  induction j with
  | zero => exact h0
  | succ j ih => exact hs j (j + 1) (by omega) ih
theorem T_putsIn (hZ : Bz G) (hρ : Good G ρ) {e p q n : Nat} (he : e < 16) (hp16 : p < 16) (hn : t 2 p = nI n) (hn16 : n < 15) (hq : q ≤ n) (hK : K .null (tu (tu (tu (shU t (16 * p + q) (16 * p + n)) 3 (16 * p + q) (nI e)) 2 p (nI (n + 1))) 1 e (nI p))) : ClT G ρ mX6_putsIn f [.ref m, .int (nI e), .int (nI p), .int (nI q)] K m A t := by
  refine ClT.of (lo0 := [some (.ref m), some (.int (nI e)), some (.int (nI p)), some (.int (nI q)), none, none]) (by decide) (by simp [Value.category]) (Nat.le_of_ble_eq_true rfl) rfl ?_
  refine tw_bipush (v := nI 16) dX6_putsIn_0 (by decide) ?_
  refine tw_iload_n dX6_putsIn_2 rfl rfl ?_
  refine tw_imulN dX6_putsIn_3 ?_
  refine tw_istore (lo' := [_, _, _, _, _, _]) dX6_putsIn_4 (by decide) rfl ?_
  refine tw_aload_n dX6_putsIn_6 rfl rfl rfl ?_
  refine tw_geta (k := 2) hZ hρ (by decide) rfl q2273 dX6_putsIn_7 ?_
  refine tw_iload_n dX6_putsIn_10 rfl rfl ?_
  refine tw_iald (k := 2) hZ hρ (by decide) (by show _ < 16; omega) dX6_putsIn_11 ?_
  rw [hn]
  refine tw_istore (lo' := [_, _, _, _, _, _]) dX6_putsIn_12 (by decide) rfl ?_
  have key4 : ∀ j, q + j ≤ n → AtT G ρ mX6_putsIn f K m A 14 [some (.ref m), some (.int (nI e)), some (.int (nI p)), some (.int (nI q)), some (.int (nI (16 * p))), some (.int (nI (q + j)))] [] (shU t (16 * p + (q + j)) (16 * p + n)) := by
    intro j
    induction j with
    | zero =>
      intro hj
      rw [Nat.add_zero]
      refine tw_iload dX6_putsIn_14 rfl ?_
      refine tw_iload_n dX6_putsIn_16 rfl rfl ?_
      refine tw_icmp_leN (tgt := 48) (by omega) (by omega) dX6_putsIn_17 (by decide) (fun c17 => ?_) (fun c17 => ?_)
      · refine tw_aload_n dX6_putsIn_48 rfl rfl rfl ?_
        refine tw_geta (k := 3) hZ hρ (by decide) rfl q2274 dX6_putsIn_49 ?_
        refine tw_iload dX6_putsIn_52 rfl ?_
        refine tw_iload_n dX6_putsIn_54 rfl rfl ?_
        refine tw_iaddN dX6_putsIn_55 ?_
        refine tw_iload_n dX6_putsIn_56 rfl rfl ?_
        refine tw_iast (k := 3) hZ hρ (by decide) (by show _ < 256; omega) dX6_putsIn_57 ?_
        refine tw_aload_n dX6_putsIn_58 rfl rfl rfl ?_
        refine tw_geta (k := 2) hZ hρ (by decide) rfl q2273 dX6_putsIn_59 ?_
        refine tw_iload_n dX6_putsIn_62 rfl rfl ?_
        refine tw_dup2 dX6_putsIn_63 rfl rfl ?_
        refine tw_iald (k := 2) hZ hρ (by decide) (by show _ < 16; omega) dX6_putsIn_64 ?_
        rw [show (tu (shU t (16 * p + q) (16 * p + n)) 3 (16 * p + q) (nI e)) 2 p = nI n from by rw [tu_nk _ _ (by decide)]; exact hn]
        refine tw_iconst (v := nI 1) dX6_putsIn_65 (by decide) ?_
        refine tw_iaddN dX6_putsIn_66 ?_
        refine tw_iast (k := 2) hZ hρ (by decide) (by show _ < 16; omega) dX6_putsIn_67 ?_
        refine tw_aload_n dX6_putsIn_68 rfl rfl rfl ?_
        refine tw_geta (k := 1) hZ hρ (by decide) rfl q2272 dX6_putsIn_69 ?_
        refine tw_iload_n dX6_putsIn_72 rfl rfl ?_
        refine tw_iload_n dX6_putsIn_73 rfl rfl ?_
        refine tw_iast (k := 1) hZ hρ (by decide) (by show _ < 16; omega) dX6_putsIn_74 ?_
        refine tw_return rfl dX6_putsIn_75 ?_
        exact hK
      · exact absurd c17 (by omega)
    | succ j ih0 =>
      intro hj
      have ih := ih0 (by omega)
      refine tw_iload dX6_putsIn_14 rfl ?_
      refine tw_iload_n dX6_putsIn_16 rfl rfl ?_
      refine tw_icmp_leN (tgt := 48) (by omega) (by omega) dX6_putsIn_17 (by decide) (fun c17 => ?_) (fun c17 => ?_)
      · exact absurd c17 (by omega)
      · refine tw_aload_n dX6_putsIn_20 rfl rfl rfl ?_
        refine tw_geta (k := 3) hZ hρ (by decide) rfl q2274 dX6_putsIn_21 ?_
        refine tw_iload dX6_putsIn_24 rfl ?_
        refine tw_iload dX6_putsIn_26 rfl ?_
        refine tw_iaddN dX6_putsIn_28 ?_
        refine tw_aload_n dX6_putsIn_29 rfl rfl rfl ?_
        refine tw_geta (k := 3) hZ hρ (by decide) rfl q2274 dX6_putsIn_30 ?_
        refine tw_iload dX6_putsIn_33 rfl ?_
        refine tw_iload dX6_putsIn_35 rfl ?_
        refine tw_iaddN dX6_putsIn_37 ?_
        refine tw_iconst (v := nI 1) dX6_putsIn_38 (by decide) ?_
        skip
        refine tw_isubN (by omega) dX6_putsIn_39 ?_
        refine tw_iald (k := 3) hZ hρ (by decide) (by show _ < 256; omega) dX6_putsIn_40 ?_
        refine tw_iast (k := 3) hZ hρ (by decide) (by show _ < 256; omega) dX6_putsIn_41 ?_
        refine tw_iinc (v := nI (q + j)) (lo' := [_, _, _, _, _, _]) dX6_putsIn_42 rfl (by decide) (by rw [show Int32.ofInt (-1) = (-1) by decide]; exact pk_m1 (q + j)) rfl ?_
        refine tw_goto (tgt := 14) dX6_putsIn_45 (by decide) ?_
        rw [show 16 * p + (q + (j + 1)) - 1 = 16 * p + (q + j) by omega, show 16 * p + (q + (j + 1)) = 16 * p + (q + j) + 1 by omega, shU_s _ (by omega)]
        exact ih
  have k0 := key4 (n - q) (by omega)
  rw [show q + (n - q) = n by omega, shU_0] at k0
  exact k0
end Tw3
