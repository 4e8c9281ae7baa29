/-! THE TWIN, part 2: depth, isWithin, placeOf -/
set_option maxRecDepth 100000
section Tw2
variable {G : Gv} {ρ : Hp → Heap → Prop} {f : Nat} {K : Value → Tw → Prop} {m : Nat} {A : Nat → Nat} {t : Tw}

theorem nI_m1 {p : Nat} (h : p < 4096) : ¬ nI p = -1 := by
  intro e
  have h1 := congrArg Int32.toInt e
  rw [nI_toInt (by omega)] at h1
  have h2 : (-1 : Int32).toInt = -1 := by decide
  rw [h2] at h1
  omega
theorem nI_z {p : Nat} (h : p < 4096) (e : nI p = 0) : p = 0 := (nI_eq (b := 0) (by omega) (by omega)).mp (by rw [e]; rfl)
theorem dpt_0 : dpt t 0 = 0 := rfl
theorem dpt_pos (hW : WT t) {e : Nat} (he : e < 16) (hh : hr t e) (h0 : e ≠ 0) : dpt t e = dpt t (pr t e) + 1 := (hW.2.2.2.1 e he hh h0).2.2.2.1
theorem T_depth_loop (hZ : Bz G) (hρ : Good G ρ) (hW : WT t) {e : Nat} (he : e < 16) (hK : K (.int (nI (dpt t e))) t) : ∀ d c n, c < 16 → hr t c → dpt t c = d → n + d = dpt t e → n + d < 100 → AtT G ρ mX6_depth f K m A 9 [some (.ref m), some (.int (nI e)), some (.int (nI n)), some (.int (t 1 c))] [] t := by
  intro d
  induction d with
  | zero =>
    intro c n hc hh hd hn hn1
    have c0 : c = 0 := by
      apply Decidable.byContradiction
      intro q
      have := dpt_pos hW hc hh q
      omega
    subst c0
    rw [hW.2.2.1]
    refine tw_iload_n dX6_depth_9 rfl rfl ?_
    refine tw_iconst (v := (-1)) dX6_depth_10 (by decide) ?_
    refine tw_icmp_eq (tgt := 27) dX6_depth_11 (by decide) (fun c11 => ?_) (fun c11 => ?_)
    · refine tw_iload_n dX6_depth_27 rfl rfl ?_
      refine tw_ireturn rfl rfl dX6_depth_28 ?_
      rw [show n = dpt t e by omega]; exact hK
    · exact absurd rfl c11
  | succ d ih =>
    intro c n hc hh hd hn hn1
    have c0 : c ≠ 0 := by
      intro q
      subst q
      rw [dpt_0] at hd
      omega
    obtain ⟨h1, h2, h3, h4, -⟩ := hW.2.2.2.1 c hc hh c0
    rw [h2]
    refine tw_iload_n dX6_depth_9 rfl rfl ?_
    refine tw_iconst (v := (-1)) dX6_depth_10 (by decide) ?_
    refine tw_icmp_eq (tgt := 27) dX6_depth_11 (by decide) (fun c11 => ?_) (fun c11 => ?_)
    · exact absurd c11 (nI_m1 (by omega))
    · refine tw_iinc1 (lo' := [_, _, _, _]) dX6_depth_14 rfl (by decide) rfl ?_
      refine tw_aload_n dX6_depth_17 rfl rfl rfl ?_
      refine tw_geta (k := 1) hZ hρ (by decide) rfl q2272 dX6_depth_18 ?_
      refine tw_iload_n dX6_depth_21 rfl rfl ?_
      refine tw_iald (k := 1) hZ hρ (by decide) (by show _ < 16; omega) dX6_depth_22 ?_
      refine tw_istore_n (lo' := [_, _, _, _]) dX6_depth_23 rfl (by decide) rfl ?_
      refine tw_goto (tgt := 9) dX6_depth_24 (by decide) ?_
      exact ih (pr t c) (n + 1) h1 h3 (by omega) (by omega) (by omega)
theorem T_depth (hZ : Bz G) (hρ : Good G ρ) (hW : WT t) {e : Nat} (he : e < 16) (hh : hr t e) (hK : K (.int (nI (dpt t e))) t) : ClT G ρ mX6_depth f [.ref m, .int (nI e)] K m A t := by
  refine ClT.of (lo0 := [some (.ref m), some (.int (nI e)), none, none]) (by decide) (by simp [Value.category]) (Nat.le_of_ble_eq_true rfl) rfl ?_
  refine tw_iconst (v := nI 0) dX6_depth_0 (by decide) ?_
  refine tw_istore_n (lo' := [_, _, _, _]) dX6_depth_1 rfl (by decide) rfl ?_
  refine tw_aload_n dX6_depth_2 rfl rfl rfl ?_
  refine tw_geta (k := 1) hZ hρ (by decide) rfl q2272 dX6_depth_3 ?_
  refine tw_iload_n dX6_depth_6 rfl rfl ?_
  refine tw_iald (k := 1) hZ hρ (by decide) (by show _ < 16; omega) dX6_depth_7 ?_
  refine tw_istore_n (lo' := [_, _, _, _]) dX6_depth_8 rfl (by decide) rfl ?_
  exact T_depth_loop hZ hρ hW he hK (dpt t e) e 0 he hh rfl (by omega) (by have := hW.2.2.2.2.2 e he hh; omega)
theorem T_isWithin_end {e b : Nat} (hb : b < 16) (hK : K (.int 0) t) : AtT G ρ mX6_isWithin f K m A 2 [some (.ref m), some (.int (nI e)), some (.int (nI b)), some (.int (-1))] [] t := by
  refine tw_iload_n dX6_isWithin_2 rfl rfl ?_
  refine tw_iconst (v := (-1)) dX6_isWithin_3 (by decide) ?_
  refine tw_icmp_eq (tgt := 22) dX6_isWithin_4 (by decide) (fun c4 => ?_) (fun c4 => ?_)
  · refine tw_iload_n dX6_isWithin_22 rfl rfl ?_
    refine tw_iload_n dX6_isWithin_23 rfl rfl ?_
    refine tw_icmp_ne (tgt := 31) dX6_isWithin_24 (by decide) (fun c24 => ?_) (fun c24 => ?_)
    · refine tw_iconst (v := nI 0) dX6_isWithin_31 (by decide) ?_
      refine tw_ireturn rfl rfl dX6_isWithin_32 ?_
      exact hK
    · refine tw_iconst (v := nI 1) dX6_isWithin_27 (by decide) ?_
      refine tw_goto (tgt := 32) dX6_isWithin_28 (by decide) ?_
      refine tw_ireturn rfl rfl dX6_isWithin_32 ?_
      exact absurd c24.symm (nI_m1 (by omega))
  · exact absurd rfl c4
theorem T_isWithin_loop (hZ : Bz G) (hρ : Good G ρ) (hW : WT t) {e b : Nat} (he : e < 16) (hb : b < 16) (hK : K (.int (if wb t b (dpt t e) e = true then 1 else 0)) t) : ∀ d c, c < 16 → hr t c → dpt t c = d → wb t b d c = wb t b (dpt t e) e → AtT G ρ mX6_isWithin f K m A 2 [some (.ref m), some (.int (nI e)), some (.int (nI b)), some (.int (nI c))] [] t := by
  intro d
  induction d with
  | zero =>
    intro c hc hh hd hw
    have c0 : c = 0 := by
      apply Decidable.byContradiction
      intro q
      have := dpt_pos hW hc hh q
      omega
    subst c0
    refine tw_iload_n dX6_isWithin_2 rfl rfl ?_
    refine tw_iconst (v := (-1)) dX6_isWithin_3 (by decide) ?_
    refine tw_icmp_eq (tgt := 22) dX6_isWithin_4 (by decide) (fun c4 => ?_) (fun c4 => ?_)
    · refine tw_iload_n dX6_isWithin_22 rfl rfl ?_
      refine tw_iload_n dX6_isWithin_23 rfl rfl ?_
      refine tw_icmp_neN (tgt := 31) (by omega) (by omega) dX6_isWithin_24 (by decide) (fun c24 => ?_) (fun c24 => ?_)
      · refine tw_iconst (v := nI 0) dX6_isWithin_31 (by decide) ?_
        refine tw_ireturn rfl rfl dX6_isWithin_32 ?_
        exact K_f hK (by rw [← hw]; simp [wb]; first | exact c9 | exact c24) rfl
      · refine tw_iconst (v := nI 1) dX6_isWithin_27 (by decide) ?_
        refine tw_goto (tgt := 32) dX6_isWithin_28 (by decide) ?_
        refine tw_ireturn rfl rfl dX6_isWithin_32 ?_
        exact K_t hK (by rw [← hw]; simp [wb]; first | exact c9 | exact c24) rfl
    · refine tw_iload_n dX6_isWithin_7 rfl rfl ?_
      refine tw_iload_n dX6_isWithin_8 rfl rfl ?_
      refine tw_icmp_eqN (tgt := 22) (by omega) (by omega) dX6_isWithin_9 (by decide) (fun c9 => ?_) (fun c9 => ?_)
      · refine tw_iload_n dX6_isWithin_22 rfl rfl ?_
        refine tw_iload_n dX6_isWithin_23 rfl rfl ?_
        refine tw_icmp_neN (tgt := 31) (by omega) (by omega) dX6_isWithin_24 (by decide) (fun c24 => ?_) (fun c24 => ?_)
        · refine tw_iconst (v := nI 0) dX6_isWithin_31 (by decide) ?_
          refine tw_ireturn rfl rfl dX6_isWithin_32 ?_
          exact K_f hK (by rw [← hw]; simp [wb]; first | exact c9 | exact c24) rfl
        · refine tw_iconst (v := nI 1) dX6_isWithin_27 (by decide) ?_
          refine tw_goto (tgt := 32) dX6_isWithin_28 (by decide) ?_
          refine tw_ireturn rfl rfl dX6_isWithin_32 ?_
          exact K_t hK (by rw [← hw]; simp [wb]; first | exact c9 | exact c24) rfl
      · refine tw_aload_n dX6_isWithin_12 rfl rfl rfl ?_
        refine tw_geta (k := 1) hZ hρ (by decide) rfl q2272 dX6_isWithin_13 ?_
        refine tw_iload_n dX6_isWithin_16 rfl rfl ?_
        refine tw_iald (k := 1) hZ hρ (by decide) (by show _ < 16; omega) dX6_isWithin_17 ?_
        refine tw_istore_n (lo' := [_, _, _, _]) dX6_isWithin_18 rfl (by decide) rfl ?_
        refine tw_goto (tgt := 2) dX6_isWithin_19 (by decide) ?_
        rw [hW.2.2.1]
        exact T_isWithin_end (b := b) hb (by rw [← hw] at hK; simpa [wb, c9] using hK)
  | succ d ih =>
    intro c hc hh hd hw
    have c0 : c ≠ 0 := by
      intro q
      subst q
      rw [dpt_0] at hd
      omega
    obtain ⟨h1, h2, h3, h4, -⟩ := hW.2.2.2.1 c hc hh c0
    refine tw_iload_n dX6_isWithin_2 rfl rfl ?_
    refine tw_iconst (v := (-1)) dX6_isWithin_3 (by decide) ?_
    refine tw_icmp_eq (tgt := 22) dX6_isWithin_4 (by decide) (fun c4 => ?_) (fun c4 => ?_)
    · refine tw_iload_n dX6_isWithin_22 rfl rfl ?_
      refine tw_iload_n dX6_isWithin_23 rfl rfl ?_
      refine tw_icmp_neN (tgt := 31) (by omega) (by omega) dX6_isWithin_24 (by decide) (fun c24 => ?_) (fun c24 => ?_)
      · refine tw_iconst (v := nI 0) dX6_isWithin_31 (by decide) ?_
        refine tw_ireturn rfl rfl dX6_isWithin_32 ?_
        first | exact absurd c9 c24 | exact absurd c4 (nI_m1 (by omega))
      · refine tw_iconst (v := nI 1) dX6_isWithin_27 (by decide) ?_
        refine tw_goto (tgt := 32) dX6_isWithin_28 (by decide) ?_
        refine tw_ireturn rfl rfl dX6_isWithin_32 ?_
        exact K_t hK (by rw [← hw]; simp [wb]; first | exact Or.inl c9 | exact Or.inl c24) rfl
    · refine tw_iload_n dX6_isWithin_7 rfl rfl ?_
      refine tw_iload_n dX6_isWithin_8 rfl rfl ?_
      refine tw_icmp_eqN (tgt := 22) (by omega) (by omega) dX6_isWithin_9 (by decide) (fun c9 => ?_) (fun c9 => ?_)
      · refine tw_iload_n dX6_isWithin_22 rfl rfl ?_
        refine tw_iload_n dX6_isWithin_23 rfl rfl ?_
        refine tw_icmp_neN (tgt := 31) (by omega) (by omega) dX6_isWithin_24 (by decide) (fun c24 => ?_) (fun c24 => ?_)
        · refine tw_iconst (v := nI 0) dX6_isWithin_31 (by decide) ?_
          refine tw_ireturn rfl rfl dX6_isWithin_32 ?_
          first | exact absurd c9 c24 | exact absurd c4 (nI_m1 (by omega))
        · refine tw_iconst (v := nI 1) dX6_isWithin_27 (by decide) ?_
          refine tw_goto (tgt := 32) dX6_isWithin_28 (by decide) ?_
          refine tw_ireturn rfl rfl dX6_isWithin_32 ?_
          exact K_t hK (by rw [← hw]; simp [wb]; first | exact Or.inl c9 | exact Or.inl c24) rfl
      · refine tw_aload_n dX6_isWithin_12 rfl rfl rfl ?_
        refine tw_geta (k := 1) hZ hρ (by decide) rfl q2272 dX6_isWithin_13 ?_
        refine tw_iload_n dX6_isWithin_16 rfl rfl ?_
        refine tw_iald (k := 1) hZ hρ (by decide) (by show _ < 16; omega) dX6_isWithin_17 ?_
        rw [h2]
        refine tw_istore_n (lo' := [_, _, _, _]) dX6_isWithin_18 rfl (by decide) rfl ?_
        refine tw_goto (tgt := 2) dX6_isWithin_19 (by decide) ?_
        exact ih (pr t c) h1 h3 (by omega) (by rw [← hw]; simp [wb, c9])
theorem T_isWithin (hZ : Bz G) (hρ : Good G ρ) (hW : WT t) {e b : Nat} (he : e < 16) (hh : hr t e) (hb : b < 16) (hK : K (.int (if wb t b (dpt t e) e = true then 1 else 0)) t) : ClT G ρ mX6_isWithin f [.ref m, .int (nI e), .int (nI b)] K m A t := by
  refine ClT.of (lo0 := [some (.ref m), some (.int (nI e)), some (.int (nI b)), none]) (by decide) (by simp [Value.category]) (Nat.le_of_ble_eq_true rfl) rfl ?_
  refine tw_iload_n dX6_isWithin_0 rfl rfl ?_
  refine tw_istore_n (lo' := [_, _, _, _]) dX6_isWithin_1 rfl (by decide) rfl ?_
  exact T_isWithin_loop hZ hρ hW he hb hK (dpt t e) e he hh rfl rfl
theorem T_placeOf_loop (hZ : Bz G) (hρ : Good G ρ) (hW : WT t) {e : Nat} (he : e < 16) (hh : hr t e) (h0 : e ≠ 0) (hK : K (.int (nI (pl t e))) t) : ∀ n j, j + n = pl t e → AtT G ρ mX6_placeOf f K m A 2 [some (.ref m), some (.int (nI e)), some (.int (nI j))] [] t := by
  obtain ⟨h1, h2, h3, h4, -⟩ := hW.2.2.2.1 e he hh h0
  obtain ⟨g1, g2⟩ := pl_spec hW he hh h0
  obtain ⟨m1, m2, m3, m4⟩ := hW.2.2.2.2.1 (pr t e) h1 h3
  intro n
  induction n with
  | zero =>
    intro j hj
    have ej : j = pl t e := by omega
    have hkj := (m3 j (by omega)).2.2.1
    have hk16 := (m3 j (by omega)).1
    refine tw_iload_n dX6_placeOf_2 rfl rfl ?_
    refine tw_if_eq (tgt := 32) dX6_placeOf_3 (by decide) (fun c3 => ?_) (fun c3 => ?_)
    · refine tw_iload_n dX6_placeOf_32 rfl rfl ?_
      refine tw_ireturn rfl rfl dX6_placeOf_33 ?_
      first | (rw [← ej] at hK; exact hK)
    · refine tw_aload_n dX6_placeOf_6 rfl rfl rfl ?_
      refine tw_geta (k := 3) hZ hρ (by decide) rfl q2274 dX6_placeOf_7 ?_
      refine tw_bipush (v := nI 16) dX6_placeOf_10 (by decide) ?_
      refine tw_aload_n dX6_placeOf_12 rfl rfl rfl ?_
      refine tw_geta (k := 1) hZ hρ (by decide) rfl q2272 dX6_placeOf_13 ?_
      refine tw_iload_n dX6_placeOf_16 rfl rfl ?_
      refine tw_iald (k := 1) hZ hρ (by decide) (by show _ < 16; omega) dX6_placeOf_17 ?_
      rw [h2]
      refine tw_imulN dX6_placeOf_18 ?_
      refine tw_iload_n dX6_placeOf_19 rfl rfl ?_
      refine tw_iaddN dX6_placeOf_20 ?_
      refine tw_iald (k := 3) hZ hρ (by decide) (by show _ < 256; omega) dX6_placeOf_21 ?_
      rw [hkj]
      refine tw_iload_n dX6_placeOf_22 rfl rfl ?_
      refine tw_icmp_eqN (tgt := 32) (by omega) (by omega) dX6_placeOf_23 (by decide) (fun c23 => ?_) (fun c23 => ?_)
      · refine tw_iload_n dX6_placeOf_32 rfl rfl ?_
        refine tw_ireturn rfl rfl dX6_placeOf_33 ?_
        first | (rw [← ej] at hK; exact hK)
      · exact absurd (by rw [ej]; exact g2) c23
  | succ n ih =>
    intro j hj
    have hkj := (m3 j (by omega)).2.2.1
    have hk16 := (m3 j (by omega)).1
    refine tw_iload_n dX6_placeOf_2 rfl rfl ?_
    refine tw_if_eq (tgt := 32) dX6_placeOf_3 (by decide) (fun c3 => ?_) (fun c3 => ?_)
    · refine tw_iload_n dX6_placeOf_32 rfl rfl ?_
      refine tw_ireturn rfl rfl dX6_placeOf_33 ?_
      first | exact absurd (nI_z (by omega) c3) h0 | exact absurd (pl_uni hW he hh h0 (by omega) c23) (by omega)
    · refine tw_aload_n dX6_placeOf_6 rfl rfl rfl ?_
      refine tw_geta (k := 3) hZ hρ (by decide) rfl q2274 dX6_placeOf_7 ?_
      refine tw_bipush (v := nI 16) dX6_placeOf_10 (by decide) ?_
      refine tw_aload_n dX6_placeOf_12 rfl rfl rfl ?_
      refine tw_geta (k := 1) hZ hρ (by decide) rfl q2272 dX6_placeOf_13 ?_
      refine tw_iload_n dX6_placeOf_16 rfl rfl ?_
      refine tw_iald (k := 1) hZ hρ (by decide) (by show _ < 16; omega) dX6_placeOf_17 ?_
      rw [h2]
      refine tw_imulN dX6_placeOf_18 ?_
      refine tw_iload_n dX6_placeOf_19 rfl rfl ?_
      refine tw_iaddN dX6_placeOf_20 ?_
      refine tw_iald (k := 3) hZ hρ (by decide) (by show _ < 256; omega) dX6_placeOf_21 ?_
      rw [hkj]
      refine tw_iload_n dX6_placeOf_22 rfl rfl ?_
      refine tw_icmp_eqN (tgt := 32) (by omega) (by omega) dX6_placeOf_23 (by decide) (fun c23 => ?_) (fun c23 => ?_)
      · refine tw_iload_n dX6_placeOf_32 rfl rfl ?_
        refine tw_ireturn rfl rfl dX6_placeOf_33 ?_
        first | exact absurd (nI_z (by omega) c3) h0 | exact absurd (pl_uni hW he hh h0 (by omega) c23) (by omega)
      · refine tw_iinc1 (lo' := [_, _, _]) dX6_placeOf_26 rfl (by decide) rfl ?_
        refine tw_goto (tgt := 2) dX6_placeOf_29 (by decide) ?_
        exact ih (j + 1) (by omega)
theorem T_placeOf (hZ : Bz G) (hρ : Good G ρ) (hW : WT t) {e : Nat} (he : e < 16) (hh : hr t e) (hK : K (.int (nI (pl t e))) t) : ClT G ρ mX6_placeOf f [.ref m, .int (nI e)] K m A t := by
  refine ClT.of (lo0 := [some (.ref m), some (.int (nI e)), none]) (by decide) (by simp [Value.category]) (Nat.le_of_ble_eq_true rfl) rfl ?_
  refine tw_iconst (v := nI 0) dX6_placeOf_0 (by decide) ?_
  refine tw_istore_n (lo' := [_, _, _]) dX6_placeOf_1 rfl (by decide) rfl ?_
  by_cases h0 : e = 0
  · subst h0
    refine tw_iload_n dX6_placeOf_2 rfl rfl ?_
    refine tw_if_eq (tgt := 32) dX6_placeOf_3 (by decide) (fun c3 => ?_) (fun c3 => ?_)
    · refine tw_iload_n dX6_placeOf_32 rfl rfl ?_
      refine tw_ireturn rfl rfl dX6_placeOf_33 ?_
      exact hK
    · exact absurd rfl c3
  · exact T_placeOf_loop hZ hρ hW he hh h0 hK (pl t e) 0 (by omega)
end Tw2
