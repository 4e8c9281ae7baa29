/-! THE TWIN, part 6: remove, move -/
set_option maxRecDepth 100000
section Tw6
variable {G : Gv} {ρ : Hp → Heap → Prop} {f : Nat} {K : Value → Tw → Prop} {m : Nat} {A : Nat → Nat} {t : Tw}

/-- the same tree -/
def Ag (s t : Tw) : Prop := s 0 = t 0 ∧ s 1 = t 1 ∧ s 2 = t 2 ∧ s 3 = t 3
theorem Ag.pr {s : Tw} (h : Ag s t) : pr s = pr t := by funext e; unfold _root_.Jvm.Pilot.CPrecedenceLaw_law_r7879_842982.pr; rw [h.2.1]
theorem Ag.mn {s : Tw} (h : Ag s t) : mn s = mn t := by funext e; unfold _root_.Jvm.Pilot.CPrecedenceLaw_law_r7879_842982.mn; rw [h.2.2.1]
theorem Ag.kd {s : Tw} (h : Ag s t) : kd s = kd t := by funext e j; unfold _root_.Jvm.Pilot.CPrecedenceLaw_law_r7879_842982.kd; rw [h.2.2.2]
theorem Ag.hr {s : Tw} (h : Ag s t) : hr s = hr t := by funext e; unfold _root_.Jvm.Pilot.CPrecedenceLaw_law_r7879_842982.hr; rw [h.1]
theorem Ag.dq {s : Tw} (h : Ag s t) : dq s = dq t := by
  funext n
  induction n with
  | zero => rfl
  | succ n ih =>
    funext e
    show (if e = 0 then 0 else _root_.Jvm.Pilot.CPrecedenceLaw_law_r7879_842982.dq s n (_root_.Jvm.Pilot.CPrecedenceLaw_law_r7879_842982.pr s e) + 1) = (if e = 0 then 0 else _root_.Jvm.Pilot.CPrecedenceLaw_law_r7879_842982.dq t n (_root_.Jvm.Pilot.CPrecedenceLaw_law_r7879_842982.pr t e) + 1)
    rw [ih, h.pr]
theorem Ag.dpt {s : Tw} (h : Ag s t) : dpt s = dpt t := by funext e; unfold _root_.Jvm.Pilot.CPrecedenceLaw_law_r7879_842982.dpt; rw [h.dq]
theorem Ag.wb {s : Tw} (h : Ag s t) : wb s = wb t := by
  funext b d
  induction d with
  | zero => rfl
  | succ d ih =>
    funext e
    show (e == b || _root_.Jvm.Pilot.CPrecedenceLaw_law_r7879_842982.wb s b d (_root_.Jvm.Pilot.CPrecedenceLaw_law_r7879_842982.pr s e)) = (e == b || _root_.Jvm.Pilot.CPrecedenceLaw_law_r7879_842982.wb t b d (_root_.Jvm.Pilot.CPrecedenceLaw_law_r7879_842982.pr t e))
    rw [ih, h.pr]
theorem Ag.pl {s : Tw} (h : Ag s t) : pl s = pl t := by funext e; unfold _root_.Jvm.Pilot.CPrecedenceLaw_law_r7879_842982.pl; rw [h.kd, h.pr]
theorem Ag.WT {s : Tw} (h : Ag s t) (hW : WT t) : WT s := by
  unfold _root_.Jvm.Pilot.CPrecedenceLaw_law_r7879_842982.WT at hW ⊢
  rw [h.pr, h.mn, h.kd, h.hr, h.dpt, h.1, h.2.1, h.2.2.1, h.2.2.2]
  exact hW
theorem Ag.ch0 : Ag (ch0 t) t := by
  refine ⟨?_, ?_, ?_, ?_⟩ <;> (funext i; exact ch0_d (by decide) (by decide))
theorem wb_le (hW : WT t) {b : Nat} (hb : b < 16) : ∀ d e, e < 16 → hr t e → dpt t e = d → wb t b d e = true → hr t b ∧ dpt t b ≤ d := by
  intro d
  induction d with
  | zero =>
    intro e he hh hd hw
    have : e = b := by simpa [wb] using hw
    subst this
    exact ⟨hh, by omega⟩
  | succ d ih =>
    intro e he hh hd hw
    have e0 : e ≠ 0 := fun q => by subst q; rw [dpt_0] at hd; omega
    obtain ⟨h1, h2, h3, h4, -⟩ := hW.2.2.2.1 e he hh e0
    have hw' : (e == b || wb t b d (pr t e)) = true := hw
    rcases Bool.or_eq_true_iff.mp hw' with q | q
    · have : e = b := by simpa using q
      subst this
      exact ⟨hh, by omega⟩
    · obtain ⟨g1, g2⟩ := ih (pr t e) h1 h3 (by omega) q
      exact ⟨g1, by omega⟩
/-- the elements that go with e -/
def gn (t : Tw) (e : Nat) : Nat → Bool := fun k => decide (¬ t 0 k = 0) && wb t e (dpt t k) k
def cn (P : Nat → Bool) : Nat → Nat
  | 0 => 0
  | j + 1 => cn P j + (if P j = true then 1 else 0)
theorem cn_le (P : Nat → Bool) : ∀ j, cn P j ≤ j := by
  intro j
  induction j with
  | zero => exact Nat.le_refl _
  | succ j ih => show cn P j + (if P j = true then 1 else 0) ≤ j + 1; split <;> omega
/-- those of P are no longer here, below j -/
def hm (s : Tw) (P : Nat → Bool) (j : Nat) : Tw := fun q i => if q = 0 ∧ i < j then (if ¬ s 0 i = 0 ∧ ¬ P i = true then 1 else 0) else s q i
theorem hm_0 (s : Tw) (P : Nat → Bool) : hm s P 0 = s := by funext q i; exact if_neg (fun z => by omega)
theorem hm_at (s : Tw) (P : Nat → Bool) (j : Nat) : hm s P j 0 j = s 0 j := if_neg (fun z => by omega)
theorem hm_s (s : Tw) (P : Nat → Bool) (j : Nat) {v : Int32} (hv : v = if ¬ s 0 j = 0 ∧ ¬ P j = true then 1 else 0) : tu (hm s P j) 0 j v = hm s P (j + 1) := by
  funext q i
  unfold tu hm
  by_cases e : q = 0 ∧ i = j
  · obtain ⟨rfl, rfl⟩ := e
    rw [if_pos ⟨rfl, rfl⟩, if_pos ⟨rfl, by omega⟩, hv]
  · rw [if_neg e]
    by_cases e2 : q = 0 ∧ i < j
    · rw [if_pos e2, if_pos (show q = 0 ∧ i < j + 1 from ⟨e2.1, by omega⟩)]
    · rw [if_neg e2, if_neg (fun z : q = 0 ∧ i < j + 1 => e2 ⟨z.1, by
        have := z.2
        have : i ≠ j := fun q' => e ⟨z.1, q'⟩
        omega⟩)]
theorem bm_t {P : Nat → Bool} {j : Nat} (h : P j = true) : bm P j ||| (nI 1 <<< (nI j &&& 31)) = bm P (j + 1) := by rw [bm_step, if_pos h]; rfl
theorem bm_f {P : Nat → Bool} {j : Nat} (h : ¬ P j = true) : bm P j ||| nI 0 = bm P (j + 1) := by rw [bm_step, if_neg h]; rfl
theorem cn_t {P : Nat → Bool} {j : Nat} (h : P j = true) : cn P (j + 1) = cn P j + 1 := by show cn P j + (if P j = true then 1 else 0) = _; rw [if_pos h]
theorem cn_f {P : Nat → Bool} {j : Nat} (h : ¬ P j = true) : cn P (j + 1) = cn P j + 0 := by show cn P j + (if P j = true then 1 else 0) = _; rw [if_neg h]
/-- the state behind remove(e), e being at place q of p, who has n children -/
def remS (t : Tw) (e p q n : Nat) : Tw := hm (shD (tu (ch0 t) 2 p (nI (n - 1))) (16 * p + q) (16 * p + (n - 1))) (gn t e) 16
theorem T_remove (hZ : Bz G) (hρ : Good G ρ) (hW : WT t) (hf : 4 ≤ f) (x : Int32) (h1n : ¬ elb t x = true → K (.int (nI 0)) (chX t (nI 1))) (h2n : ∀ e, e < 16 → x = nI e → nI e = 0 → K (.int (nI 0)) (chX t (nI 2))) (h0 : ∀ e, e < 16 → x = nI e → hr t e → e ≠ 0 → K (.int (nI (cn (gn t e) 16))) (remS t e (pr t e) (pl t e) (mn t (pr t e)))) : ClT G ρ mX6_remove f [.ref m, .int x] K m A t := by
  refine ClT.of (lo0 := [some (.ref m), some (.int x), none, none, none, none]) (by decide) (by simp [Value.category]) (Nat.le_of_ble_eq_true rfl) rfl ?_
  refine tw_aload_n dX6_remove_0 rfl rfl rfl ?_
  refine tw_iload_n dX6_remove_1 rfl rfl ?_
  refine tw_callV (M := mX6_remove) (N := mX6_isElement) (f' := f - 1) (As := [_]) hZ hρ kX6_isElement rfl q2527 dX6_remove_2 rfl (by first | exact Nat.le_of_ble_eq_true rfl | simp [Value.category]) rfl (by omega) rfl (T_isElB hZ hρ (by omega) _ ?_)
  by_cases c2 : elb t x = true
  · obtain ⟨e, he, rfl, hh⟩ := el_of hW c2
    rw [if_pos c2, show (1 : Int32) = nI 1 by decide]
    refine tw_istore_n (lo' := [_, _, _, _, _, _]) dX6_remove_5 rfl (by decide) rfl ?_
    refine tw_aload_n dX6_remove_6 rfl rfl rfl ?_
    refine tw_iload_n dX6_remove_7 rfl rfl ?_
    refine tw_if_ne (tgt := 15) dX6_remove_8 (by decide) (fun c8 => ?_) (fun c8 => absurd c8 (by decide))
    refine tw_iload_n dX6_remove_15 rfl rfl ?_
    refine tw_if_ne (tgt := 23) dX6_remove_16 (by decide) (fun c16 => ?_) (fun c16 => ?_)
    · have e0 : e ≠ 0 := fun q => c16 (by rw [q]; rfl)
      obtain ⟨h1, h2, h3, h4, -⟩ := hW.2.2.2.1 e he hh e0
      obtain ⟨g1, g2⟩ := pl_spec hW he hh e0
      obtain ⟨m1, m2, m3, m4⟩ := hW.2.2.2.2.1 (pr t e) h1 h3
      have m3e := (m3 (pl t e) g1).2.2.1
      refine tw_iconst (v := nI 0) dX6_remove_23 (by decide) ?_
      refine tw_callV (M := mX6_remove) (N := mX6_changes) (f' := f - 1) (As := [_]) hZ hρ kX6_changes rfl q2538 dX6_remove_24 rfl (by first | exact Nat.le_of_ble_eq_true rfl | simp [Value.category]) rfl (by omega) rfl (T_changes0 hZ hρ (by omega) ?_)
      refine tw_if_ne (tgt := 32) dX6_remove_27 (by decide) (fun c27 => ?_) (fun c27 => absurd c27 (by decide))
      refine tw_iconst (v := nI 0) dX6_remove_32 (by decide) ?_
      refine tw_istore_n (lo' := [_, _, _, _, _, _]) dX6_remove_33 rfl (by decide) rfl ?_
      refine tw_iconst (v := nI 0) dX6_remove_34 (by decide) ?_
      refine tw_istore (lo' := [_, _, _, _, _, _]) dX6_remove_35 (by decide) rfl ?_
      have key1 : ∀ j, j ≤ 16 → AtT G ρ mX6_remove f K m A 37 [some (.ref m), some (.int (nI e)), some (.int (nI 1)), some (.int (bm (gn t e) j)), some (.int (nI j)), none] [] (ch0 t) := by
        refine for_up (P := fun j => AtT G ρ mX6_remove f K m A 37 [some (.ref m), some (.int (nI e)), some (.int (nI 1)), some (.int (bm (gn t e) j)), some (.int (nI j)), none] [] (ch0 t)) (16) ?_ ?_
        · refine tw_iload dX6_remove_37 rfl ?_
          refine tw_bipush (v := nI 16) dX6_remove_39 (by decide) ?_
          refine tw_icmp_geN (tgt := 81) (by omega) (by omega) dX6_remove_41 (by decide) (fun c41 => ?_) (fun c41 => ?_)
          · refine tw_aload_n dX6_remove_81 rfl rfl rfl ?_
            refine tw_iload_n dX6_remove_82 rfl rfl ?_
            refine tw_callVv (M := mX6_remove) (N := mX6_takesOut) (f' := f - 1) (As := [_]) hZ hρ kX6_takesOut rfl q2558 dX6_remove_83 rfl (by first | exact Nat.le_of_ble_eq_true rfl | simp [Value.category]) rfl (by omega) rfl (T_takesOut hZ hρ (by omega) (p := pr t e) (q := pl t e) (n := mn t (pr t e)) (by rw [ch0_d (by decide) (by decide)]; exact h2) h1 he e0 (by rw [ch0_d (by decide) (by decide)]; exact m2) m1 g1 (by rw [ch0_d (by decide) (by decide), m3e, g2]) (fun j hj z => by rw [ch0_d (by decide) (by decide)] at z; rw [(m3 j (by omega)).2.2.1] at z; have hk16 := (m3 j (by omega)).1; have e5 := (nI_eq (by omega) (by omega)).mp z; have := pl_uni hW he hh e0 (by omega) e5; omega) ?_)
            refine tw_iconst (v := nI 0) dX6_remove_86 (by decide) ?_
            refine tw_istore (lo' := [_, _, _, _, _, _]) dX6_remove_87 (by decide) rfl ?_
            refine tw_iconst (v := nI 0) dX6_remove_89 (by decide) ?_
            refine tw_istore (lo' := [_, _, _, _, _, _]) dX6_remove_90 (by decide) rfl ?_
            have hK := h0 e he rfl hh e0
            obtain ⟨s1, es1⟩ : ∃ s1, s1 = (shD (tu (ch0 t) 2 (pr t e) (nI (mn t (pr t e) - 1))) (16 * pr t e + pl t e) (16 * pr t e + (mn t (pr t e) - 1))) := ⟨_, rfl⟩
            rw [remS, ← es1] at hK
            rw [← es1]
            have hs0 : ∀ i, s1 0 i = t 0 i := fun i => by rw [es1]; show shD _ _ _ 0 i = _; unfold shD; rw [if_neg (fun z => absurd z.1 (by decide)), tu_nk _ _ (by decide), ch0_d (by decide) (by decide)]
            show AtT G ρ mX6_remove f K m A 92 [some (.ref m), some (.int (nI e)), some (.int (nI 1)), some (.int (mk (gn t e))), some (.int (nI 0)), some (.int (nI 0))] [] s1
            have key2 : ∀ j, j ≤ 16 → AtT G ρ mX6_remove f K m A 92 [some (.ref m), some (.int (nI e)), some (.int (nI 1)), some (.int (mk (gn t e))), some (.int (nI (cn (gn t e) j))), some (.int (nI j))] [] (hm s1 (gn t e) j) := by
              refine for_up (P := fun j => AtT G ρ mX6_remove f K m A 92 [some (.ref m), some (.int (nI e)), some (.int (nI 1)), some (.int (mk (gn t e))), some (.int (nI (cn (gn t e) j))), some (.int (nI j))] [] (hm s1 (gn t e) j)) (16) ?_ ?_
              · refine tw_iload dX6_remove_92 rfl ?_
                refine tw_bipush (v := nI 16) dX6_remove_94 (by decide) ?_
                refine tw_icmp_geN (tgt := 155) (by omega) (by omega) dX6_remove_96 (by decide) (fun c96 => ?_) (fun c96 => ?_)
                · refine tw_iload dX6_remove_155 rfl ?_
                  refine tw_ireturn rfl rfl dX6_remove_157 ?_
                  exact hK
                · exact absurd c96 (by omega)
              · intro j hj ih
                refine tw_iload dX6_remove_92 rfl ?_
                refine tw_bipush (v := nI 16) dX6_remove_94 (by decide) ?_
                refine tw_icmp_geN (tgt := 155) (by omega) (by omega) dX6_remove_96 (by decide) (fun c96 => ?_) (fun c96 => ?_)
                · exact absurd c96 (by omega)
                · refine tw_aload_n dX6_remove_99 rfl rfl rfl ?_
                  refine tw_geta (k := 0) hZ hρ (by decide) rfl q2271 dX6_remove_100 ?_
                  refine tw_iload dX6_remove_103 rfl ?_
                  refine tw_aload_n dX6_remove_105 rfl rfl rfl ?_
                  refine tw_geta (k := 0) hZ hρ (by decide) rfl q2271 dX6_remove_106 ?_
                  refine tw_iload dX6_remove_109 rfl ?_
                  refine tw_zald (k := 0) hZ hρ (by decide) (by show _ < 16; omega) dX6_remove_111 ?_
                  rw [hm_at, hs0]
                  refine tw_if_eq (tgt := 128) dX6_remove_112 (by decide) (fun c112 => ?_) (fun c112 => ?_)
                  · first | (have cGg : gn t e j = true := by rw [← hb_mk (gn t e) (by omega : j < 16)]; exact c121) | skip
                    refine tw_iconst (v := nI 0) dX6_remove_128 (by decide) ?_
                    refine tw_zast (k := 0) hZ hρ (by decide) (by show _ < 16; omega) (Or.inl rfl) dX6_remove_129 ?_
                    first | (rw [hm_s _ _ _ (by rw [hs0]; exact (if_pos ⟨c112, cGg⟩).symm)]) | (rw [hm_s _ _ _ (by rw [hs0]; exact (if_neg (fun z => z.1 c112)).symm)]) | (rw [hm_s _ _ _ (by rw [hs0]; exact (if_neg (fun z => z.2 cGg)).symm)])
                    refine tw_iload dX6_remove_130 rfl ?_
                    refine tw_iload_n dX6_remove_132 rfl rfl ?_
                    refine tw_iload dX6_remove_133 rfl ?_
                    refine tw_callS (M := mX6_remove) (N := mX6_has) (f' := f - 1) (As := [_, _]) kX6_has q2566 dX6_remove_135 rfl (by first | exact Nat.le_of_ble_eq_true rfl | simp [Value.category]) rfl (by omega) rfl (T_has _ _ ?_)
                    refine tw_if_eqB (tgt := 145) dX6_remove_138 (by decide) (fun c138 => ?_) (fun c138 => ?_)
                    · have cHg : ¬ gn t e j = true := fun z => c138 (by rw [hb_mk _ (by omega)]; exact z)
                      refine tw_iconst (v := nI 0) dX6_remove_145 (by decide) ?_
                      refine tw_iaddN dX6_remove_146 ?_
                      refine tw_istore (lo' := [_, _, _, _, _, _]) dX6_remove_147 (by decide) rfl ?_
                      refine tw_iinc1 (lo' := [_, _, _, _, _, _]) dX6_remove_149 rfl (by decide) rfl ?_
                      refine tw_goto (tgt := 92) dX6_remove_152 (by decide) ?_
                      first | (rw [cn_t cHg] at ih; exact ih) | (rw [cn_f cHg] at ih; exact ih)
                    · have cHg : gn t e j = true := by rw [← hb_mk (gn t e) (by omega : j < 16)]; exact c138
                      refine tw_iconst (v := nI 1) dX6_remove_141 (by decide) ?_
                      refine tw_goto (tgt := 146) dX6_remove_142 (by decide) ?_
                      refine tw_iaddN dX6_remove_146 ?_
                      refine tw_istore (lo' := [_, _, _, _, _, _]) dX6_remove_147 (by decide) rfl ?_
                      refine tw_iinc1 (lo' := [_, _, _, _, _, _]) dX6_remove_149 rfl (by decide) rfl ?_
                      refine tw_goto (tgt := 92) dX6_remove_152 (by decide) ?_
                      first | (rw [cn_t cHg] at ih; exact ih) | (rw [cn_f cHg] at ih; exact ih)
                  · refine tw_iload_n dX6_remove_115 rfl rfl ?_
                    refine tw_iload dX6_remove_116 rfl ?_
                    refine tw_callS (M := mX6_remove) (N := mX6_has) (f' := f - 1) (As := [_, _]) kX6_has q2566 dX6_remove_118 rfl (by first | exact Nat.le_of_ble_eq_true rfl | simp [Value.category]) rfl (by omega) rfl (T_has _ _ ?_)
                    refine tw_if_neB (tgt := 128) dX6_remove_121 (by decide) (fun c121 => ?_) (fun c121 => ?_)
                    · first | (have cGg : gn t e j = true := by rw [← hb_mk (gn t e) (by omega : j < 16)]; exact c121) | skip
                      refine tw_iconst (v := nI 0) dX6_remove_128 (by decide) ?_
                      refine tw_zast (k := 0) hZ hρ (by decide) (by show _ < 16; omega) (Or.inl rfl) dX6_remove_129 ?_
                      first | (rw [hm_s _ _ _ (by rw [hs0]; exact (if_pos ⟨c112, cGg⟩).symm)]) | (rw [hm_s _ _ _ (by rw [hs0]; exact (if_neg (fun z => z.1 c112)).symm)]) | (rw [hm_s _ _ _ (by rw [hs0]; exact (if_neg (fun z => z.2 cGg)).symm)])
                      refine tw_iload dX6_remove_130 rfl ?_
                      refine tw_iload_n dX6_remove_132 rfl rfl ?_
                      refine tw_iload dX6_remove_133 rfl ?_
                      refine tw_callS (M := mX6_remove) (N := mX6_has) (f' := f - 1) (As := [_, _]) kX6_has q2566 dX6_remove_135 rfl (by first | exact Nat.le_of_ble_eq_true rfl | simp [Value.category]) rfl (by omega) rfl (T_has _ _ ?_)
                      refine tw_if_eqB (tgt := 145) dX6_remove_138 (by decide) (fun c138 => ?_) (fun c138 => ?_)
                      · have cHg : ¬ gn t e j = true := fun z => c138 (by rw [hb_mk _ (by omega)]; exact z)
                        refine tw_iconst (v := nI 0) dX6_remove_145 (by decide) ?_
                        refine tw_iaddN dX6_remove_146 ?_
                        refine tw_istore (lo' := [_, _, _, _, _, _]) dX6_remove_147 (by decide) rfl ?_
                        refine tw_iinc1 (lo' := [_, _, _, _, _, _]) dX6_remove_149 rfl (by decide) rfl ?_
                        refine tw_goto (tgt := 92) dX6_remove_152 (by decide) ?_
                        first | (rw [cn_t cHg] at ih; exact ih) | (rw [cn_f cHg] at ih; exact ih)
                      · have cHg : gn t e j = true := by rw [← hb_mk (gn t e) (by omega : j < 16)]; exact c138
                        refine tw_iconst (v := nI 1) dX6_remove_141 (by decide) ?_
                        refine tw_goto (tgt := 146) dX6_remove_142 (by decide) ?_
                        refine tw_iaddN dX6_remove_146 ?_
                        refine tw_istore (lo' := [_, _, _, _, _, _]) dX6_remove_147 (by decide) rfl ?_
                        refine tw_iinc1 (lo' := [_, _, _, _, _, _]) dX6_remove_149 rfl (by decide) rfl ?_
                        refine tw_goto (tgt := 92) dX6_remove_152 (by decide) ?_
                        first | (rw [cn_t cHg] at ih; exact ih) | (rw [cn_f cHg] at ih; exact ih)
                    · have cGg : ¬ gn t e j = true := fun z => c121 (by rw [hb_mk _ (by omega)]; exact z)
                      refine tw_iconst (v := nI 1) dX6_remove_124 (by decide) ?_
                      refine tw_goto (tgt := 129) dX6_remove_125 (by decide) ?_
                      refine tw_zast (k := 0) hZ hρ (by decide) (by show _ < 16; omega) (Or.inr rfl) dX6_remove_129 ?_
                      first | (rw [hm_s _ _ _ (by rw [hs0]; exact (if_pos ⟨c112, cGg⟩).symm)]) | (rw [hm_s _ _ _ (by rw [hs0]; exact (if_neg (fun z => z.1 c112)).symm)]) | (rw [hm_s _ _ _ (by rw [hs0]; exact (if_neg (fun z => z.2 cGg)).symm)])
                      refine tw_iload dX6_remove_130 rfl ?_
                      refine tw_iload_n dX6_remove_132 rfl rfl ?_
                      refine tw_iload dX6_remove_133 rfl ?_
                      refine tw_callS (M := mX6_remove) (N := mX6_has) (f' := f - 1) (As := [_, _]) kX6_has q2566 dX6_remove_135 rfl (by first | exact Nat.le_of_ble_eq_true rfl | simp [Value.category]) rfl (by omega) rfl (T_has _ _ ?_)
                      refine tw_if_eqB (tgt := 145) dX6_remove_138 (by decide) (fun c138 => ?_) (fun c138 => ?_)
                      · have cHg : ¬ gn t e j = true := fun z => c138 (by rw [hb_mk _ (by omega)]; exact z)
                        refine tw_iconst (v := nI 0) dX6_remove_145 (by decide) ?_
                        refine tw_iaddN dX6_remove_146 ?_
                        refine tw_istore (lo' := [_, _, _, _, _, _]) dX6_remove_147 (by decide) rfl ?_
                        refine tw_iinc1 (lo' := [_, _, _, _, _, _]) dX6_remove_149 rfl (by decide) rfl ?_
                        refine tw_goto (tgt := 92) dX6_remove_152 (by decide) ?_
                        first | (rw [cn_t cHg] at ih; exact ih) | (rw [cn_f cHg] at ih; exact ih)
                      · have cHg : gn t e j = true := by rw [← hb_mk (gn t e) (by omega : j < 16)]; exact c138
                        refine tw_iconst (v := nI 1) dX6_remove_141 (by decide) ?_
                        refine tw_goto (tgt := 146) dX6_remove_142 (by decide) ?_
                        refine tw_iaddN dX6_remove_146 ?_
                        refine tw_istore (lo' := [_, _, _, _, _, _]) dX6_remove_147 (by decide) rfl ?_
                        refine tw_iinc1 (lo' := [_, _, _, _, _, _]) dX6_remove_149 rfl (by decide) rfl ?_
                        refine tw_goto (tgt := 92) dX6_remove_152 (by decide) ?_
                        first | (rw [cn_t cHg] at ih; exact ih) | (rw [cn_f cHg] at ih; exact ih)
            have k0 := key2 0 (by omega)
            rw [hm_0] at k0
            exact k0
          · exact absurd c41 (by omega)
        · intro j hj ih
          refine tw_iload dX6_remove_37 rfl ?_
          refine tw_bipush (v := nI 16) dX6_remove_39 (by decide) ?_
          refine tw_icmp_geN (tgt := 81) (by omega) (by omega) dX6_remove_41 (by decide) (fun c41 => ?_) (fun c41 => ?_)
          · exact absurd c41 (by omega)
          · refine tw_iload_n dX6_remove_44 rfl rfl ?_
            refine tw_aload_n dX6_remove_45 rfl rfl rfl ?_
            refine tw_geta (k := 0) hZ hρ (by decide) rfl q2271 dX6_remove_46 ?_
            refine tw_iload dX6_remove_49 rfl ?_
            refine tw_zald (k := 0) hZ hρ (by decide) (by show _ < 16; omega) dX6_remove_51 ?_
            rw [ch0_d (by decide) (by decide)]
            refine tw_if_eq (tgt := 72) dX6_remove_52 (by decide) (fun c52 => ?_) (fun c52 => ?_)
            · refine tw_iconst (v := nI 0) dX6_remove_72 (by decide) ?_
              refine tw_ior dX6_remove_73 ?_
              refine tw_istore_n (lo' := [_, _, _, _, _, _]) dX6_remove_74 rfl (by decide) rfl ?_
              refine tw_iinc1 (lo' := [_, _, _, _, _, _]) dX6_remove_75 rfl (by decide) rfl ?_
              refine tw_goto (tgt := 37) dX6_remove_78 (by decide) ?_
              first | (rw [bm_t (show gn t e j = true from Bool.and_eq_true_iff.mpr ⟨decide_eq_true c52, c62⟩)]; exact ih) | (rw [bm_f (show ¬ gn t e j = true from fun z => c62 (Bool.and_eq_true_iff.mp z).2)]; exact ih) | (rw [bm_f (show ¬ gn t e j = true from fun z => absurd c52 (of_decide_eq_true (Bool.and_eq_true_iff.mp z).1))]; exact ih)
            · have hhj : hr t j := (hW.1 j hj).resolve_left c52
              refine tw_aload_n dX6_remove_55 rfl rfl rfl ?_
              refine tw_iload dX6_remove_56 rfl ?_
              refine tw_iload_n dX6_remove_58 rfl rfl ?_
              refine tw_callV (M := mX6_remove) (N := mX6_isWithin) (f' := f - 1) (As := [_, _]) hZ hρ kX6_isWithin rfl q2554 dX6_remove_59 rfl (by first | exact Nat.le_of_ble_eq_true rfl | simp [Value.category]) rfl (by omega) rfl (T_isWithin hZ hρ (Ag.ch0.WT hW) hj (by rw [Ag.ch0.hr]; exact hhj) he ?_)
              rw [Ag.ch0.wb, Ag.ch0.dpt]
              refine tw_if_eqB (tgt := 72) dX6_remove_62 (by decide) (fun c62 => ?_) (fun c62 => ?_)
              · refine tw_iconst (v := nI 0) dX6_remove_72 (by decide) ?_
                refine tw_ior dX6_remove_73 ?_
                refine tw_istore_n (lo' := [_, _, _, _, _, _]) dX6_remove_74 rfl (by decide) rfl ?_
                refine tw_iinc1 (lo' := [_, _, _, _, _, _]) dX6_remove_75 rfl (by decide) rfl ?_
                refine tw_goto (tgt := 37) dX6_remove_78 (by decide) ?_
                first | (rw [bm_t (show gn t e j = true from Bool.and_eq_true_iff.mpr ⟨decide_eq_true c52, c62⟩)]; exact ih) | (rw [bm_f (show ¬ gn t e j = true from fun z => c62 (Bool.and_eq_true_iff.mp z).2)]; exact ih) | (rw [bm_f (show ¬ gn t e j = true from fun z => absurd c52 (of_decide_eq_true (Bool.and_eq_true_iff.mp z).1))]; exact ih)
              · refine tw_iconst (v := nI 1) dX6_remove_65 (by decide) ?_
                refine tw_iload dX6_remove_66 rfl ?_
                refine tw_ishl dX6_remove_68 ?_
                refine tw_goto (tgt := 73) dX6_remove_69 (by decide) ?_
                refine tw_ior dX6_remove_73 ?_
                refine tw_istore_n (lo' := [_, _, _, _, _, _]) dX6_remove_74 rfl (by decide) rfl ?_
                refine tw_iinc1 (lo' := [_, _, _, _, _, _]) dX6_remove_75 rfl (by decide) rfl ?_
                refine tw_goto (tgt := 37) dX6_remove_78 (by decide) ?_
                first | (rw [bm_t (show gn t e j = true from Bool.and_eq_true_iff.mpr ⟨decide_eq_true c52, c62⟩)]; exact ih) | (rw [bm_f (show ¬ gn t e j = true from fun z => c62 (Bool.and_eq_true_iff.mp z).2)]; exact ih) | (rw [bm_f (show ¬ gn t e j = true from fun z => absurd c52 (of_decide_eq_true (Bool.and_eq_true_iff.mp z).1))]; exact ih)
      exact key1 0 (by omega)
    · refine tw_iconst (v := nI 2) dX6_remove_19 (by decide) ?_
      refine tw_goto (tgt := 24) dX6_remove_20 (by decide) ?_
      refine tw_callV (M := mX6_remove) (N := mX6_changes) (f' := f - 1) (As := [_]) hZ hρ kX6_changes rfl q2538 dX6_remove_24 rfl (by first | exact Nat.le_of_ble_eq_true rfl | simp [Value.category]) rfl (by omega) rfl (T_changesF hZ hρ (by omega) (by decide) ?_)
      refine tw_if_ne (tgt := 32) dX6_remove_27 (by decide) (fun c27 => absurd c27 (by decide)) (fun c27 => ?_)
      refine tw_iconst (v := nI 0) dX6_remove_30 (by decide) ?_
      refine tw_ireturn rfl rfl dX6_remove_31 ?_
      exact h2n e he rfl c16
  · rw [if_neg c2]
    refine tw_istore_n (lo' := [_, _, _, _, _, _]) dX6_remove_5 rfl (by decide) rfl ?_
    refine tw_aload_n dX6_remove_6 rfl rfl rfl ?_
    refine tw_iload_n dX6_remove_7 rfl rfl ?_
    refine tw_if_ne (tgt := 15) dX6_remove_8 (by decide) (fun c8 => absurd c8 (by decide)) (fun c8 => ?_)
    refine tw_iconst (v := nI 1) dX6_remove_11 (by decide) ?_
    refine tw_goto (tgt := 24) dX6_remove_12 (by decide) ?_
    refine tw_callV (M := mX6_remove) (N := mX6_changes) (f' := f - 1) (As := [_]) hZ hρ kX6_changes rfl q2538 dX6_remove_24 rfl (by first | exact Nat.le_of_ble_eq_true rfl | simp [Value.category]) rfl (by omega) rfl (T_changesF hZ hρ (by omega) (by decide) ?_)
    refine tw_if_ne (tgt := 32) dX6_remove_27 (by decide) (fun c27 => absurd c27 (by decide)) (fun c27 => ?_)
    refine tw_iconst (v := nI 0) dX6_remove_30 (by decide) ?_
    refine tw_ireturn rfl rfl dX6_remove_31 ?_
    exact h1n c2
end Tw6
