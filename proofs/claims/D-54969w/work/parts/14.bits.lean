/-! SETS OF ELEMENTS AS BITS, and small rows for the twin -/
set_option maxRecDepth 100000
def hb (s k : Int32) : Bool := decide ((s >>> (k &&& 31)) &&& 1 = 1)
def b1 (n : Nat) : Int32 := 1 <<< (nI n &&& 31)
def bm (P : Nat → Bool) : Nat → Int32
  | 0 => 0
  | n + 1 => bm P n ||| (if P n = true then b1 n else 0)
/-- the set of the numbers below 16 that P holds of -/
def mk (P : Nat → Bool) : Int32 := bm P 16
theorem and1 (x : Int32) : (x &&& 1 = 1) ↔ x.toBitVec.getLsbD 0 = true := by
  rw [pk_and x (m := 1) 1 (by decide)]
  have e : (1 : Int32) = nI 1 := by decide
  rw [e, nI_eq (by omega) (by omega), BitVec.getLsbD]
  simp [Nat.testBit_zero]
theorem hb_bit {k : Nat} (hk : k < 32) (s : Int32) : hb s (nI k) = s.toBitVec.getLsbD k := by
  have hsm : ((nI k &&& 31).toBitVec.smod 32).toNat = k := by
    have : ∀ k, k < 32 → ((nI k &&& 31).toBitVec.smod 32).toNat = k := by decide +kernel
    exact this k hk
  have h2 : (s >>> (nI k &&& 31)).toBitVec = s.toBitVec.sshiftRight k := by
    rw [Int32.toBitVec_shiftRight]
    show s.toBitVec.sshiftRight ((nI k &&& 31).toBitVec.smod 32).toNat = _
    rw [hsm]
  have h1 := and1 (s >>> (nI k &&& 31))
  rw [h2, BitVec.getLsbD_sshiftRight] at h1
  have h3 : s.toBitVec.getLsbD k = (!decide (32 ≤ 0) && if k + 0 < 32 then s.toBitVec.getLsbD (k + 0) else s.toBitVec.msb) := by simp [hk]
  rw [h3]
  unfold hb
  rw [Bool.eq_iff_iff, decide_eq_true_iff]
  exact h1
theorem b1_bit : ∀ n, n < 32 → ∀ k, k < 32 → (b1 n).toBitVec.getLsbD k = decide (k = n) := by decide +kernel
theorem bm_bit (P : Nat → Bool) : ∀ n, n ≤ 32 → ∀ k, k < 32 → (bm P n).toBitVec.getLsbD k = (decide (k < n) && P k) := by
  intro n
  induction n with
  | zero => intro _ k hk; simp [bm]
  | succ n ih =>
    intro hn k hk
    show (bm P n ||| (if P n = true then b1 n else 0)).toBitVec.getLsbD k = _
    rw [Int32.toBitVec_or, BitVec.getLsbD_or, ih (by omega) k hk]
    by_cases hp : P n = true
    · rw [if_pos hp, b1_bit n (by omega) k hk]
      by_cases e : k = n
      · subst e; simp [hp]
      · by_cases e2 : k < n
        · simp [e2, show k < n + 1 by omega, e]
        · simp [e2, show ¬ k < n + 1 by omega, e]
    · rw [if_neg hp]
      have e0 : (0 : Int32).toBitVec.getLsbD k = false := by simp
      rw [e0]
      by_cases e : k = n
      · subst e; simp [hp]
      · by_cases e2 : k < n
        · simp [e2, show k < n + 1 by omega]
        · simp [e2, show ¬ k < n + 1 by omega]
theorem hb_bm (P : Nat → Bool) {n k : Nat} (hn : n ≤ 32) (hk : k < 32) : hb (bm P n) (nI k) = (decide (k < n) && P k) := by rw [hb_bit hk, bm_bit P n hn k hk]
theorem hb_mk (P : Nat → Bool) {k : Nat} (hk : k < 16) : hb (mk P) (nI k) = P k := by
  rw [show mk P = bm P 16 from rfl, hb_bm P (by omega) (by omega)]
  simp [hk]
theorem i32_ext {x y : Int32} (h : ∀ k, k < 32 → x.toBitVec.getLsbD k = y.toBitVec.getLsbD k) : x = y := by
  apply Int32.toBitVec_inj.mp
  exact BitVec.eq_of_getLsbD_eq fun i hi => h i hi
theorem bm_congr {P Q : Nat → Bool} {n : Nat} (h : ∀ k, k < n → P k = Q k) : bm P n = bm Q n := by
  induction n with
  | zero => rfl
  | succ n ih =>
    show bm P n ||| _ = bm Q n ||| _
    rw [ih (fun k hk => h k (by omega)), h n (by omega)]
theorem mk_congr {P Q : Nat → Bool} (h : ∀ k, k < 16 → P k = Q k) : mk P = mk Q := bm_congr h
theorem mk_bit (P : Nat → Bool) {k : Nat} (hk : k < 32) : (mk P).toBitVec.getLsbD k = (decide (k < 16) && P k) := bm_bit P 16 (by omega) k hk
theorem mk_or (P Q : Nat → Bool) : mk P ||| mk Q = mk (fun k => P k || Q k) := by
  apply i32_ext
  intro k hk
  rw [Int32.toBitVec_or, BitVec.getLsbD_or, mk_bit P hk, mk_bit Q hk, mk_bit _ hk]
  cases decide (k < 16) <;> simp
theorem mk_and (P Q : Nat → Bool) : mk P &&& mk Q = mk (fun k => P k && Q k) := by
  apply i32_ext
  intro k hk
  rw [Int32.toBitVec_and, BitVec.getLsbD_and, mk_bit P hk, mk_bit Q hk, mk_bit _ hk]
  cases decide (k < 16) <;> simp
theorem mk_0 : mk (fun _ => false) = 0 := by decide
theorem mk_1 {n : Nat} (hn : n < 16) : b1 n = mk (fun k => decide (k = n)) := by
  apply i32_ext
  intro k hk
  rw [b1_bit n (by omega) k hk, mk_bit _ hk]
  by_cases e : k = n
  · subst e; simp [hn]
  · simp [e]
theorem bm_step (P : Nat → Bool) (n : Nat) : bm P (n + 1) = bm P n ||| (if P n = true then b1 n else 0) := rfl
section TwMore
variable {G : Gv} {ρ : Hp → Heap → Prop} {M : Md} {f : Nat} {K : Value → Tw → Prop} {m : Nat} {A : Nat → Nat} {pc : Nat} {lo : List (Option Value)} {st : List Value} {t : Tw}
theorem ite0 {P : Prop} [Decidable P] : ((if P then (1 : Int32) else 0) = 0) ↔ ¬ P := by
  by_cases h : P
  · rw [if_pos h]; exact ⟨fun q => absurd q (by decide), fun q => absurd h q⟩
  · rw [if_neg h]; exact ⟨fun _ => h, fun _ => rfl⟩
theorem tw_if_eqB {P : Prop} [Decidable P] {off : Int} {tgt : Nat} (hd : decode M.2.1 pc = .ok (.ifCond .eq off, 3)) (ht : (pc : Int) + off = (tgt : Int)) (k1 : ¬ P → AtT G ρ M f K m A tgt lo st t) (k2 : P → AtT G ρ M f K m A (pc + 3) lo st t) : AtT G ρ M f K m A pc lo (.int (if P then 1 else 0) :: st) t :=
  tw_if_eq hd ht (fun q => k1 (ite0.mp q)) (fun q => k2 (Decidable.not_not.mp fun z => q (ite0.mpr z)))
theorem tw_if_neB {P : Prop} [Decidable P] {off : Int} {tgt : Nat} (hd : decode M.2.1 pc = .ok (.ifCond .ne off, 3)) (ht : (pc : Int) + off = (tgt : Int)) (k1 : P → AtT G ρ M f K m A tgt lo st t) (k2 : ¬ P → AtT G ρ M f K m A (pc + 3) lo st t) : AtT G ρ M f K m A pc lo (.int (if P then 1 else 0) :: st) t :=
  tw_if_ne hd ht (fun q => k1 (Decidable.not_not.mp fun z => q (ite0.mpr z))) (fun q => k2 (ite0.mp q))
end TwMore
