/-! THE TWIN's JUDGEMENT: PrecedenceModel is one object and its arrays; its state t says of field k its int at i (a field without an array: at 0) -/
set_option maxRecDepth 100000
section TwinRows
/-- of the fields: 0 an int, 1 an array of ints, 2 of booleans; and how long it is -/
def tkL : List Nat := [2, 1, 1, 1, 1, 1, 1, 1, 1, 2, 0, 1, 1, 1, 1, 1, 1, 1, 1, 0, 1, 1, 1, 1, 0, 1, 1, 1, 2, 1, 2, 1, 1, 1, 1, 1, 1, 1, 2, 1, 1, 0, 0, 1, 1, 1, 2, 1, 0, 1, 1, 1, 2, 1, 1, 0, 1, 2, 1, 1, 1, 1, 1, 1, 1, 1, 2, 1, 1, 1, 1, 1, 1, 1, 1, 1, 1, 1, 1, 1, 1, 0]
def tlL : List Nat := [16, 16, 16, 256, 16, 16, 16, 16, 64, 16, 1, 17, 51, 204, 204, 816, 816, 816, 51, 1, 25, 100, 400, 24, 1, 17, 102, 102, 102, 17, 17, 17, 17, 17, 17, 16, 16, 16, 16, 16, 18, 1, 1, 16, 112, 112, 112, 320, 1, 16, 48, 16, 16, 16, 16, 1, 120, 120, 120, 120, 120, 120, 120, 120, 120, 120, 120, 256, 256, 256, 16, 7, 7, 160, 160, 160, 96, 2880, 16, 24, 720, 1]
def tk (k : Nat) : Nat := tkL.getD k 0
def tl (k : Nat) : Nat := tlL.getD k 0
abbrev Tw : Type := Nat → Nat → Int32
def tu (t : Tw) (k i : Nat) (x : Int32) : Tw := fun q j => if q = k ∧ j = i then x else t q j
theorem tu_eq (t : Tw) (k i : Nat) (x : Int32) : tu t k i x k i = x := if_pos ⟨rfl, rfl⟩
theorem tu_ne (t : Tw) {k i q j : Nat} (x : Int32) (h : ¬ (q = k ∧ j = i)) : tu t k i x q j = t q j := if_neg h
theorem tu_nk (t : Tw) {k i q j : Nat} (x : Int32) (h : q ≠ k) : tu t k i x q j = t q j := if_neg (fun z => h z.1)
/-- the picture h holds the twin at m, its arrays at A, in state t -/
def TwR (G : Gv) (m : Nat) (A : Nat → Nat) (h : Hp) (t : Tw) : Prop :=
  zs G ≤ m ∧ tg h m = 7 ∧ (∀ k, k < 82 → tk k = 0 → iv h m k = t k 0) ∧
  (∀ k, k < 82 → tk k ≠ 0 → rv h m k = some (A k) ∧ zs G ≤ A k ∧ tg h (A k) = (if tk k = 1 then 100 else 101) ∧ ln h (A k) = tl k ∧ A k ≠ m ∧ ∀ i, i < tl k → iv h (A k) i = t k i) ∧
  (∀ j k, j < 82 → k < 82 → tk j ≠ 0 → tk k ≠ 0 → A j = A k → j = k)
def KT (G : Gv) (m : Nat) (A : Nat → Nat) (K : Value → Tw → Prop) : Value → Hp → Prop := fun v h => ∃ t, TwR G m A h t ∧ K v t
def NoX : String → Hp → Prop := fun _ _ => False
def AtT (G : Gv) (ρ : Hp → Heap → Prop) (M : Md) (f : Nat) (K : Value → Tw → Prop) (m : Nat) (A : Nat → Nat) (pc : Nat) (lo : List (Option Value)) (st : List Value) (t : Tw) : Prop :=
  ∀ h, TwR G m A h t → At G ρ M f (KT G m A K) NoX pc lo st h 0 0
/-- a call of the twin's method N -/
def ClT (G : Gv) (ρ : Hp → Heap → Prop) (N : Md) (f : Nat) (as : List Value) (K : Value → Tw → Prop) (m : Nat) (A : Nat → Nat) (t : Tw) : Prop :=
  ∀ h, TwR G m A h t → Cl G ρ N f 0 0 as h (KT G m A K) NoX
variable {G : Gv} {ρ : Hp → Heap → Prop} {M : Md} {f : Nat} {K : Value → Tw → Prop} {m : Nat} {A : Nat → Nat} {pc : Nat} {lo : List (Option Value)} {st : List Value} {t : Tw}
theorem tw_istore_n {j : Fin 4} {i : Nat} {x : Int32} {lo' : List (Option Value)} (hd : decode M.2.1 pc = .ok (.istore_n j, 1)) (hi : (j : Nat) = i) (hn : i < M.2.2.1) (hlo : lo.set i (some (.int x)) = lo') (kk : AtT G ρ M f K m A (pc + 1) lo' st t) : AtT G ρ M f K m A pc lo (.int x :: st) t :=
  fun h hT => at_istore_n hd hi hn hlo (kk h hT)
theorem tw_istore {i : Nat} {x : Int32} {lo' : List (Option Value)} (hd : decode M.2.1 pc = .ok (.istore i, 2)) (hn : i < M.2.2.1) (hlo : lo.set i (some (.int x)) = lo') (kk : AtT G ρ M f K m A (pc + 2) lo' st t) : AtT G ρ M f K m A pc lo (.int x :: st) t :=
  fun h hT => at_istore hd hn hlo (kk h hT)
theorem tw_iadd {x y : Int32} (hd : decode M.2.1 pc = .ok (.iadd, 1)) (kk : AtT G ρ M f K m A (pc + 1) lo (.int (x + y) :: st) t) : AtT G ρ M f K m A pc lo (.int y :: .int x :: st) t :=
  fun h hT => at_iadd hd (kk h hT)
theorem tw_isub {x y : Int32} (hd : decode M.2.1 pc = .ok (.isub, 1)) (kk : AtT G ρ M f K m A (pc + 1) lo (.int (x - y) :: st) t) : AtT G ρ M f K m A pc lo (.int y :: .int x :: st) t :=
  fun h hT => at_isub hd (kk h hT)
theorem tw_imul {x y : Int32} (hd : decode M.2.1 pc = .ok (.imul, 1)) (kk : AtT G ρ M f K m A (pc + 1) lo (.int (x * y) :: st) t) : AtT G ρ M f K m A pc lo (.int y :: .int x :: st) t :=
  fun h hT => at_imul hd (kk h hT)
theorem tw_iand {x y : Int32} (hd : decode M.2.1 pc = .ok (.iand, 1)) (kk : AtT G ρ M f K m A (pc + 1) lo (.int (x &&& y) :: st) t) : AtT G ρ M f K m A pc lo (.int y :: .int x :: st) t :=
  fun h hT => at_iand hd (kk h hT)
theorem tw_ior {x y : Int32} (hd : decode M.2.1 pc = .ok (.ior, 1)) (kk : AtT G ρ M f K m A (pc + 1) lo (.int (x ||| y) :: st) t) : AtT G ρ M f K m A pc lo (.int y :: .int x :: st) t :=
  fun h hT => at_ior hd (kk h hT)
theorem tw_ixor {x y : Int32} (hd : decode M.2.1 pc = .ok (.ixor, 1)) (kk : AtT G ρ M f K m A (pc + 1) lo (.int (x ^^^ y) :: st) t) : AtT G ρ M f K m A pc lo (.int y :: .int x :: st) t :=
  fun h hT => at_ixor hd (kk h hT)
theorem tw_ishl {x y : Int32} (hd : decode M.2.1 pc = .ok (.ishl, 1)) (kk : AtT G ρ M f K m A (pc + 1) lo (.int (x <<< (y &&& 31)) :: st) t) : AtT G ρ M f K m A pc lo (.int y :: .int x :: st) t :=
  fun h hT => at_ishl hd (kk h hT)
theorem tw_ishr {x y : Int32} (hd : decode M.2.1 pc = .ok (.ishr, 1)) (kk : AtT G ρ M f K m A (pc + 1) lo (.int (x >>> (y &&& 31)) :: st) t) : AtT G ρ M f K m A pc lo (.int y :: .int x :: st) t :=
  fun h hT => at_ishr hd (kk h hT)
theorem tw_idiv {x y : Int32} (hd : decode M.2.1 pc = .ok (.idiv, 1)) (hne : ¬ y = 0) (kk : AtT G ρ M f K m A (pc + 1) lo (.int (x / y) :: st) t) : AtT G ρ M f K m A pc lo (.int y :: .int x :: st) t :=
  fun h hT => at_idiv hd hne (kk h hT)
theorem tw_irem {x y : Int32} (hd : decode M.2.1 pc = .ok (.irem, 1)) (hne : ¬ y = 0) (kk : AtT G ρ M f K m A (pc + 1) lo (.int (x - x / y * y) :: st) t) : AtT G ρ M f K m A pc lo (.int y :: .int x :: st) t :=
  fun h hT => at_irem hd hne (kk h hT)
theorem tw_ineg {x : Int32} (hd : decode M.2.1 pc = .ok (.ineg, 1)) (kk : AtT G ρ M f K m A (pc + 1) lo (.int (-x) :: st) t) : AtT G ρ M f K m A pc lo (.int x :: st) t :=
  fun h hT => at_ineg hd (kk h hT)
theorem tw_i2l {x : Int32} (hd : decode M.2.1 pc = .ok (.i2l, 1)) (kk : AtT G ρ M f K m A (pc + 1) lo (.long x.toInt64 :: st) t) : AtT G ρ M f K m A pc lo (.int x :: st) t :=
  fun h hT => at_i2l hd (kk h hT)
theorem tw_iconst {z : Int} {v : Int32} (hd : decode M.2.1 pc = .ok (.iconst z, 1)) (hv : Int32.ofInt z = v) (kk : AtT G ρ M f K m A (pc + 1) lo (.int v :: st) t) : AtT G ρ M f K m A pc lo (st) t :=
  fun h hT => at_iconst hd hv (kk h hT)
theorem tw_bipush {z : Int} {v : Int32} (hd : decode M.2.1 pc = .ok (.bipush z, 2)) (hv : (Int8.ofInt z).toInt32 = v) (kk : AtT G ρ M f K m A (pc + 2) lo (.int v :: st) t) : AtT G ρ M f K m A pc lo (st) t :=
  fun h hT => at_bipush hd hv (kk h hT)
theorem tw_sipush {z : Int} {v : Int32} (hd : decode M.2.1 pc = .ok (.sipush z, 3)) (hv : (Int16.ofInt z).toInt32 = v) (kk : AtT G ρ M f K m A (pc + 3) lo (.int v :: st) t) : AtT G ρ M f K m A pc lo (st) t :=
  fun h hT => at_sipush hd hv (kk h hT)
theorem tw_lconst {z : Fin 2} {v : Int64} (hd : decode M.2.1 pc = .ok (.lconst z, 1)) (hv : Int64.ofNat (z : Nat) = v) (kk : AtT G ρ M f K m A (pc + 1) lo (.long v :: st) t) : AtT G ρ M f K m A pc lo (st) t :=
  fun h hT => at_lconst hd hv (kk h hT)
theorem tw_iload_n {j : Fin 4} {i : Nat} {x : Int32} (hd : decode M.2.1 pc = .ok (.iload_n j, 1)) (hi : (j : Nat) = i) (hl0 : lo[i]? = some (some (.int x))) (kk : AtT G ρ M f K m A (pc + 1) lo (.int x :: st) t) : AtT G ρ M f K m A pc lo (st) t :=
  fun h hT => at_iload_n hd hi hl0 (kk h hT)
theorem tw_iload {i : Nat} {x : Int32} (hd : decode M.2.1 pc = .ok (.iload i, 2)) (hl0 : lo[i]? = some (some (.int x))) (kk : AtT G ρ M f K m A (pc + 2) lo (.int x :: st) t) : AtT G ρ M f K m A pc lo (st) t :=
  fun h hT => at_iload hd hl0 (kk h hT)
theorem tw_dup {v : Value} (hd : decode M.2.1 pc = .ok (.dup, 1)) (hv : v.category = 1) (kk : AtT G ρ M f K m A (pc + 1) lo (v :: v :: st) t) : AtT G ρ M f K m A pc lo (v :: st) t :=
  fun h hT => at_dup hd hv (kk h hT)
theorem tw_dup_x1 {v w : Value} (hd : decode M.2.1 pc = .ok (.dup_x1, 1)) (hv : v.category = 1) (hw : w.category = 1) (kk : AtT G ρ M f K m A (pc + 1) lo (v :: w :: v :: st) t) : AtT G ρ M f K m A pc lo (v :: w :: st) t :=
  fun h hT => at_dup_x1 hd hv hw (kk h hT)
theorem tw_dup2 {v w : Value} (hd : decode M.2.1 pc = .ok (.dup2, 1)) (hv : v.category = 1) (hw : w.category = 1) (kk : AtT G ρ M f K m A (pc + 1) lo (v :: w :: v :: w :: st) t) : AtT G ρ M f K m A pc lo (v :: w :: st) t :=
  fun h hT => at_dup2 hd hv hw (kk h hT)
theorem tw_pop {v : Value} (hd : decode M.2.1 pc = .ok (.pop, 1)) (hv : v.category = 1) (kk : AtT G ρ M f K m A (pc + 1) lo (st) t) : AtT G ρ M f K m A pc lo (v :: st) t :=
  fun h hT => at_pop hd hv (kk h hT)
theorem tw_lcmp {x y : Int64} (hd : decode M.2.1 pc = .ok (.lcmp, 1)) (kk : AtT G ρ M f K m A (pc + 1) lo (.int (lg_cmp x y) :: st) t) : AtT G ρ M f K m A pc lo (.long y :: .long x :: st) t :=
  fun h hT => at_lcmp hd (kk h hT)
theorem tw_ldc {i : Nat} {v : Int32} (hd : decode M.2.1 pc = .ok (.ldc i, 2)) (hc : Cond.constant M.1.cls i v ∈ lw_all) (kk : AtT G ρ M f K m A (pc + 2) lo (.int v :: st) t) : AtT G ρ M f K m A pc lo (st) t :=
  fun h hT => at_ldc hd hc (kk h hT)
theorem tw_ldcw {i : Nat} {v : Int32} (hd : decode M.2.1 pc = .ok (.ldc_w i, 3)) (hc : Cond.constant M.1.cls i v ∈ lw_all) (kk : AtT G ρ M f K m A (pc + 3) lo (.int v :: st) t) : AtT G ρ M f K m A pc lo (st) t :=
  fun h hT => at_ldcw hd hc (kk h hT)
theorem tw_goto {off : Int} {tgt : Nat} (hd : decode M.2.1 pc = .ok (.goto off, 3)) (ht : (pc : Int) + off = (tgt : Int)) (kk : AtT G ρ M f K m A tgt lo st t) : AtT G ρ M f K m A pc lo st t :=
  fun h hT => at_goto hd ht (kk h hT)
theorem tw_if_eq {x : Int32} {off : Int} {tgt : Nat} (hd : decode M.2.1 pc = .ok (.ifCond .eq off, 3)) (ht : (pc : Int) + off = (tgt : Int)) (k1 : x = 0 → AtT G ρ M f K m A tgt lo st t) (k2 : ¬ (x = 0) → AtT G ρ M f K m A (pc + 3) lo st t) : AtT G ρ M f K m A pc lo (.int x :: st) t :=
  fun h hT => at_if_eq hd ht (fun q => k1 q h hT) (fun q => k2 q h hT)
theorem tw_icmp_eq {x y : Int32} {off : Int} {tgt : Nat} (hd : decode M.2.1 pc = .ok (.if_icmp .eq off, 3)) (ht : (pc : Int) + off = (tgt : Int)) (k1 : x = y → AtT G ρ M f K m A tgt lo st t) (k2 : ¬ (x = y) → AtT G ρ M f K m A (pc + 3) lo st t) : AtT G ρ M f K m A pc lo (.int y :: .int x :: st) t :=
  fun h hT => at_icmp_eq hd ht (fun q => k1 q h hT) (fun q => k2 q h hT)
theorem tw_if_ne {x : Int32} {off : Int} {tgt : Nat} (hd : decode M.2.1 pc = .ok (.ifCond .ne off, 3)) (ht : (pc : Int) + off = (tgt : Int)) (k1 : ¬ x = 0 → AtT G ρ M f K m A tgt lo st t) (k2 : x = 0 → AtT G ρ M f K m A (pc + 3) lo st t) : AtT G ρ M f K m A pc lo (.int x :: st) t :=
  fun h hT => at_if_ne hd ht (fun q => k1 q h hT) (fun q => k2 q h hT)
theorem tw_icmp_ne {x y : Int32} {off : Int} {tgt : Nat} (hd : decode M.2.1 pc = .ok (.if_icmp .ne off, 3)) (ht : (pc : Int) + off = (tgt : Int)) (k1 : ¬ x = y → AtT G ρ M f K m A tgt lo st t) (k2 : x = y → AtT G ρ M f K m A (pc + 3) lo st t) : AtT G ρ M f K m A pc lo (.int y :: .int x :: st) t :=
  fun h hT => at_icmp_ne hd ht (fun q => k1 q h hT) (fun q => k2 q h hT)
theorem tw_if_lt {x : Int32} {off : Int} {tgt : Nat} (hd : decode M.2.1 pc = .ok (.ifCond .lt off, 3)) (ht : (pc : Int) + off = (tgt : Int)) (k1 : x < 0 → AtT G ρ M f K m A tgt lo st t) (k2 : ¬ (x < 0) → AtT G ρ M f K m A (pc + 3) lo st t) : AtT G ρ M f K m A pc lo (.int x :: st) t :=
  fun h hT => at_if_lt hd ht (fun q => k1 q h hT) (fun q => k2 q h hT)
theorem tw_icmp_lt {x y : Int32} {off : Int} {tgt : Nat} (hd : decode M.2.1 pc = .ok (.if_icmp .lt off, 3)) (ht : (pc : Int) + off = (tgt : Int)) (k1 : x < y → AtT G ρ M f K m A tgt lo st t) (k2 : ¬ (x < y) → AtT G ρ M f K m A (pc + 3) lo st t) : AtT G ρ M f K m A pc lo (.int y :: .int x :: st) t :=
  fun h hT => at_icmp_lt hd ht (fun q => k1 q h hT) (fun q => k2 q h hT)
theorem tw_if_ge {x : Int32} {off : Int} {tgt : Nat} (hd : decode M.2.1 pc = .ok (.ifCond .ge off, 3)) (ht : (pc : Int) + off = (tgt : Int)) (k1 : 0 ≤ x → AtT G ρ M f K m A tgt lo st t) (k2 : ¬ (0 ≤ x) → AtT G ρ M f K m A (pc + 3) lo st t) : AtT G ρ M f K m A pc lo (.int x :: st) t :=
  fun h hT => at_if_ge hd ht (fun q => k1 q h hT) (fun q => k2 q h hT)
theorem tw_icmp_ge {x y : Int32} {off : Int} {tgt : Nat} (hd : decode M.2.1 pc = .ok (.if_icmp .ge off, 3)) (ht : (pc : Int) + off = (tgt : Int)) (k1 : y ≤ x → AtT G ρ M f K m A tgt lo st t) (k2 : ¬ (y ≤ x) → AtT G ρ M f K m A (pc + 3) lo st t) : AtT G ρ M f K m A pc lo (.int y :: .int x :: st) t :=
  fun h hT => at_icmp_ge hd ht (fun q => k1 q h hT) (fun q => k2 q h hT)
theorem tw_if_gt {x : Int32} {off : Int} {tgt : Nat} (hd : decode M.2.1 pc = .ok (.ifCond .gt off, 3)) (ht : (pc : Int) + off = (tgt : Int)) (k1 : 0 < x → AtT G ρ M f K m A tgt lo st t) (k2 : ¬ (0 < x) → AtT G ρ M f K m A (pc + 3) lo st t) : AtT G ρ M f K m A pc lo (.int x :: st) t :=
  fun h hT => at_if_gt hd ht (fun q => k1 q h hT) (fun q => k2 q h hT)
theorem tw_icmp_gt {x y : Int32} {off : Int} {tgt : Nat} (hd : decode M.2.1 pc = .ok (.if_icmp .gt off, 3)) (ht : (pc : Int) + off = (tgt : Int)) (k1 : y < x → AtT G ρ M f K m A tgt lo st t) (k2 : ¬ (y < x) → AtT G ρ M f K m A (pc + 3) lo st t) : AtT G ρ M f K m A pc lo (.int y :: .int x :: st) t :=
  fun h hT => at_icmp_gt hd ht (fun q => k1 q h hT) (fun q => k2 q h hT)
theorem tw_if_le {x : Int32} {off : Int} {tgt : Nat} (hd : decode M.2.1 pc = .ok (.ifCond .le off, 3)) (ht : (pc : Int) + off = (tgt : Int)) (k1 : x ≤ 0 → AtT G ρ M f K m A tgt lo st t) (k2 : ¬ (x ≤ 0) → AtT G ρ M f K m A (pc + 3) lo st t) : AtT G ρ M f K m A pc lo (.int x :: st) t :=
  fun h hT => at_if_le hd ht (fun q => k1 q h hT) (fun q => k2 q h hT)
theorem tw_icmp_le {x y : Int32} {off : Int} {tgt : Nat} (hd : decode M.2.1 pc = .ok (.if_icmp .le off, 3)) (ht : (pc : Int) + off = (tgt : Int)) (k1 : x ≤ y → AtT G ρ M f K m A tgt lo st t) (k2 : ¬ (x ≤ y) → AtT G ρ M f K m A (pc + 3) lo st t) : AtT G ρ M f K m A pc lo (.int y :: .int x :: st) t :=
  fun h hT => at_icmp_le hd ht (fun q => k1 q h hT) (fun q => k2 q h hT)
theorem tw_aload_n {j : Fin 4} {i : Nat} {v : Value} (hd : decode M.2.1 pc = .ok (.aload_n j, 1)) (hi : (j : Nat) = i) (hl0 : lo[i]? = some (some v)) (hv : v.isRef = true) (kk : AtT G ρ M f K m A (pc + 1) lo (v :: st) t) : AtT G ρ M f K m A pc lo st t :=
  fun h hT => at_aload_n hd hi hl0 hv (kk h hT)
theorem tw_aload {i : Nat} {v : Value} (hd : decode M.2.1 pc = .ok (.aload i, 2)) (hl0 : lo[i]? = some (some v)) (hv : v.isRef = true) (kk : AtT G ρ M f K m A (pc + 2) lo (v :: st) t) : AtT G ρ M f K m A pc lo st t :=
  fun h hT => at_aload hd hl0 hv (kk h hT)
theorem tw_astore_n {j : Fin 4} {i : Nat} {v : Value} {lo' : List (Option Value)} (hd : decode M.2.1 pc = .ok (.astore_n j, 1)) (hi : (j : Nat) = i) (hn : i < M.2.2.1) (hv : v.isRef = true) (hlo : lo.set i (some v) = lo') (kk : AtT G ρ M f K m A (pc + 1) lo' st t) : AtT G ρ M f K m A pc lo (v :: st) t :=
  fun h hT => at_astore_n hd hi hn hv hlo (kk h hT)
theorem tw_astore {i : Nat} {v : Value} {lo' : List (Option Value)} (hd : decode M.2.1 pc = .ok (.astore i, 2)) (hn : i < M.2.2.1) (hv : v.isRef = true) (hlo : lo.set i (some v) = lo') (kk : AtT G ρ M f K m A (pc + 2) lo' st t) : AtT G ρ M f K m A pc lo (v :: st) t :=
  fun h hT => at_astore hd hn hv hlo (kk h hT)
theorem tw_iinc {i : Nat} {z : Int} {x v : Int32} {lo' : List (Option Value)} (hd : decode M.2.1 pc = .ok (.iinc i z, 3)) (hl0 : lo[i]? = some (some (.int x))) (hn : i < M.2.2.1) (hv : x + Int32.ofInt z = v) (hlo : lo.set i (some (.int v)) = lo') (kk : AtT G ρ M f K m A (pc + 3) lo' st t) : AtT G ρ M f K m A pc lo st t :=
  fun h hT => at_iinc hd hl0 hn hv hlo (kk h hT)
theorem tw_mask (b : List Bool) {lo' : List (Option Value)} (e : lmask b lo = lo') (kk : AtT G ρ M f K m A pc lo' st t) : AtT G ρ M f K m A pc lo st t := fun h hT => At.mask b e (kk h hT)
theorem tw_iaddN {a b : Nat} (hd : decode M.2.1 pc = .ok (.iadd, 1)) (kk : AtT G ρ M f K m A (pc + 1) lo (.int (nI (a + b)) :: st) t) : AtT G ρ M f K m A pc lo (.int (nI b) :: .int (nI a) :: st) t :=
  tw_iadd hd (by rw [nI_add]; exact kk)
theorem tw_imulN {a b : Nat} (hd : decode M.2.1 pc = .ok (.imul, 1)) (kk : AtT G ρ M f K m A (pc + 1) lo (.int (nI (a * b)) :: st) t) : AtT G ρ M f K m A pc lo (.int (nI b) :: .int (nI a) :: st) t :=
  tw_imul hd (by rw [pk_mul]; exact kk)
theorem tw_isubN {a b : Nat} (hle : b ≤ a) (hd : decode M.2.1 pc = .ok (.isub, 1)) (kk : AtT G ρ M f K m A (pc + 1) lo (.int (nI (a - b)) :: st) t) : AtT G ρ M f K m A pc lo (.int (nI b) :: .int (nI a) :: st) t :=
  tw_isub hd (by rw [pk_sub hle]; exact kk)
theorem tw_iinc1 {i a : Nat} {lo' : List (Option Value)} (hd : decode M.2.1 pc = .ok (.iinc i 1, 3)) (hl0 : lo[i]? = some (some (.int (nI a)))) (hn : i < M.2.2.1) (hlo : lo.set i (some (.int (nI (a + 1)))) = lo') (kk : AtT G ρ M f K m A (pc + 3) lo' st t) : AtT G ρ M f K m A pc lo st t :=
  tw_iinc hd hl0 hn (v := nI (a + 1)) (by rw [show Int32.ofInt 1 = 1 by decide]; exact nI_1 a) hlo kk
theorem tw_iincN {i : Nat} {x : Int32} {lo' : List (Option Value)} (hd : decode M.2.1 pc = .ok (.iinc i 1, 3)) (hl0 : lo[i]? = some (some (.int x))) (hn : i < M.2.2.1) (hlo : lo.set i (some (.int (x + 1))) = lo') (kk : AtT G ρ M f K m A (pc + 3) lo' st t) : AtT G ρ M f K m A pc lo st t :=
  tw_iinc hd hl0 hn (v := x + 1) (by rw [show Int32.ofInt 1 = 1 by decide]) hlo kk
/-! branches on counted numbers -/
theorem tw_icmp_ltN {a b : Nat} {off : Int} {tgt : Nat} (ha : a < 2 ^ 31) (hb : b < 2 ^ 31) (hd : decode M.2.1 pc = .ok (.if_icmp .lt off, 3)) (ht : (pc : Int) + off = (tgt : Int)) (k1 : a < b → AtT G ρ M f K m A tgt lo st t) (k2 : b ≤ a → AtT G ρ M f K m A (pc + 3) lo st t) : AtT G ρ M f K m A pc lo (.int (nI b) :: .int (nI a) :: st) t :=
  tw_icmp_lt hd ht (fun q => k1 ((nI_ltI ha hb).mp q)) (fun q => k2 (Nat.not_lt.mp (fun z => q ((nI_ltI ha hb).mpr z))))
theorem tw_icmp_geN {a b : Nat} {off : Int} {tgt : Nat} (ha : a < 2 ^ 31) (hb : b < 2 ^ 31) (hd : decode M.2.1 pc = .ok (.if_icmp .ge off, 3)) (ht : (pc : Int) + off = (tgt : Int)) (k1 : b ≤ a → AtT G ρ M f K m A tgt lo st t) (k2 : a < b → AtT G ρ M f K m A (pc + 3) lo st t) : AtT G ρ M f K m A pc lo (.int (nI b) :: .int (nI a) :: st) t :=
  tw_icmp_ge hd ht (fun q => k1 ((nI_leI hb ha).mp q)) (fun q => k2 (Nat.not_le.mp (fun z => q ((nI_leI hb ha).mpr z))))
theorem tw_icmp_gtN {a b : Nat} {off : Int} {tgt : Nat} (ha : a < 2 ^ 31) (hb : b < 2 ^ 31) (hd : decode M.2.1 pc = .ok (.if_icmp .gt off, 3)) (ht : (pc : Int) + off = (tgt : Int)) (k1 : b < a → AtT G ρ M f K m A tgt lo st t) (k2 : a ≤ b → AtT G ρ M f K m A (pc + 3) lo st t) : AtT G ρ M f K m A pc lo (.int (nI b) :: .int (nI a) :: st) t :=
  tw_icmp_gt hd ht (fun q => k1 ((nI_ltI hb ha).mp q)) (fun q => k2 (Nat.not_lt.mp (fun z => q ((nI_ltI hb ha).mpr z))))
theorem tw_icmp_leN {a b : Nat} {off : Int} {tgt : Nat} (ha : a < 2 ^ 31) (hb : b < 2 ^ 31) (hd : decode M.2.1 pc = .ok (.if_icmp .le off, 3)) (ht : (pc : Int) + off = (tgt : Int)) (k1 : a ≤ b → AtT G ρ M f K m A tgt lo st t) (k2 : b < a → AtT G ρ M f K m A (pc + 3) lo st t) : AtT G ρ M f K m A pc lo (.int (nI b) :: .int (nI a) :: st) t :=
  tw_icmp_le hd ht (fun q => k1 ((nI_leI ha hb).mp q)) (fun q => k2 (Nat.not_le.mp (fun z => q ((nI_leI ha hb).mpr z))))
theorem tw_icmp_eqN {a b : Nat} {off : Int} {tgt : Nat} (ha : a < 2 ^ 31) (hb : b < 2 ^ 31) (hd : decode M.2.1 pc = .ok (.if_icmp .eq off, 3)) (ht : (pc : Int) + off = (tgt : Int)) (k1 : a = b → AtT G ρ M f K m A tgt lo st t) (k2 : a ≠ b → AtT G ρ M f K m A (pc + 3) lo st t) : AtT G ρ M f K m A pc lo (.int (nI b) :: .int (nI a) :: st) t :=
  tw_icmp_eq hd ht (fun q => k1 ((nI_eq ha hb).mp q)) (fun q => k2 (fun z => q ((nI_eq ha hb).mpr z)))
theorem tw_icmp_neN {a b : Nat} {off : Int} {tgt : Nat} (ha : a < 2 ^ 31) (hb : b < 2 ^ 31) (hd : decode M.2.1 pc = .ok (.if_icmp .ne off, 3)) (ht : (pc : Int) + off = (tgt : Int)) (k1 : a ≠ b → AtT G ρ M f K m A tgt lo st t) (k2 : a = b → AtT G ρ M f K m A (pc + 3) lo st t) : AtT G ρ M f K m A pc lo (.int (nI b) :: .int (nI a) :: st) t :=
  tw_icmp_ne hd ht (fun q => k1 (fun z => q ((nI_eq ha hb).mpr z))) (fun q => k2 ((nI_eq ha hb).mp q))
/-! fields and arrays of the twin -/
theorem tk_lt {k : Nat} (h : tk k ≠ 0) : k < 82 := by
  apply Decidable.byContradiction
  intro q
  apply h
  unfold tk
  rw [List.getD_eq_getElem?_getD, List.getElem?_eq_none (by show 82 ≤ k; omega)]
  rfl
theorem tw_geta (hZ : Bz G) (hρ : Good G ρ) {k i : Nat} (hk : tk k ≠ 0) (hy : (cY 6 k).isReference = true) (hl : Cond.fieldLink M.1.cls i (cT 6 k).1 (cT 6 k).2.1 (cT 6 k).2.2.1 ∈ lw_all) (hd : decode M.2.1 pc = .ok (.getfield i, 3)) (kk : AtT G ρ M f K m A (pc + 3) lo (.ref (A k) :: st) t) : AtT G ρ M f K m A pc lo (.ref m :: st) t := by
  intro h hT
  refine at_getr (c := 6) (j := k) hZ hρ (by decide) (tk_lt hk) hy hl hd hT.2.1 ?_
  rw [(hT.2.2.2.1 k (tk_lt hk) hk).1]
  exact kk h hT
theorem tw_gets (hZ : Bz G) (hρ : Good G ρ) {k i : Nat} (hk8 : k < 82) (hk : tk k = 0) (hy : (cY 6 k).isReference = false) (hl : Cond.fieldLink M.1.cls i (cT 6 k).1 (cT 6 k).2.1 (cT 6 k).2.2.1 ∈ lw_all) (hd : decode M.2.1 pc = .ok (.getfield i, 3)) (kk : AtT G ρ M f K m A (pc + 3) lo (.int (t k 0) :: st) t) : AtT G ρ M f K m A pc lo (.ref m :: st) t := by
  intro h hT
  refine at_geti (c := 6) (j := k) hZ hρ (by decide) hk8 hy hl hd hT.2.1 ?_
  rw [hT.2.2.1 k hk8 hk]
  exact kk h hT
theorem tw_puts (hZ : Bz G) (hρ : Good G ρ) {k i : Nat} {x : Int32} (hk8 : k < 82) (hk : tk k = 0) (hy : (cY 6 k).isReference = false) (hl : Cond.fieldLink M.1.cls i (cT 6 k).1 (cT 6 k).2.1 (cT 6 k).2.2.1 ∈ lw_all) (hfin : (cT 6 k).2.2.2 = false) (hn : narrow (cY 6 k) (.int x) = .int x) (hf : fits (cY 6 k) (.int x) = true) (hd : decode M.2.1 pc = .ok (.putfield i, 3)) (kk : AtT G ρ M f K m A (pc + 3) lo st (tu t k 0 x)) : AtT G ρ M f K m A pc lo (.int x :: .ref m :: st) t := by
  intro h hT
  obtain ⟨t1, t2, t3, t4, t5⟩ := hT
  refine at_puti (c := 6) (j := k) hZ hρ (by decide) hk8 hy hl hd (Or.inl hfin) hn hf t2 t1 (kk _ ⟨t1, t2, fun q hq hq0 => ?_, fun q hq hq0 => ?_, t5⟩)
  · rw [iv_si]
    by_cases e : q = k
    · subst e
      rw [if_pos ⟨rfl, rfl⟩, tu_eq]
    · rw [if_neg (fun z => e z.2), tu_nk _ _ e]
      exact t3 q hq hq0
  · obtain ⟨u1, u2, u3, u4, u5, u6⟩ := t4 q hq hq0
    refine ⟨u1, u2, u3, u4, u5, fun i hi => ?_⟩
    rw [iv_si, if_neg (fun z => u5 z.1), u6 i hi, tu_nk]
    intro e
    subst e
    exact hq0 hk
theorem tl_lt : ∀ k, k < 82 → tl k < 4096 := by decide
theorem nI_cl {j : Nat} (h : j < 4096) : (nI j).toNatClampNeg = j := nI_clamp (by omega)
theorem tw_iald (hZ : Bz G) (hρ : Good G ρ) {k j : Nat} (hk : tk k = 1) (hj : j < tl k) (hd : decode M.2.1 pc = .ok (.iaload, 1)) (kk : AtT G ρ M f K m A (pc + 1) lo (.int (t k j) :: st) t) : AtT G ρ M f K m A pc lo (.int (nI j) :: .ref (A k) :: st) t := by
  intro h hT
  have hk8 : k < 82 := tk_lt (by omega)
  have hl := tl_lt k hk8
  obtain ⟨u1, u2, u3, u4, u5, u6⟩ := hT.2.2.2.1 k hk8 (by omega)
  refine at_iald hZ hρ (by rw [u3, if_pos hk]) (by rw [u4]; exact vp_in_nI hj (by omega)) hd ?_
  rw [nI_cl (by omega), u6 j hj]
  exact kk h hT
theorem tw_zald (hZ : Bz G) (hρ : Good G ρ) {k j : Nat} (hk : tk k = 2) (hj : j < tl k) (hd : decode M.2.1 pc = .ok (.baload, 1)) (kk : AtT G ρ M f K m A (pc + 1) lo (.int (t k j) :: st) t) : AtT G ρ M f K m A pc lo (.int (nI j) :: .ref (A k) :: st) t := by
  intro h hT
  have hk8 : k < 82 := tk_lt (by omega)
  have hl := tl_lt k hk8
  obtain ⟨u1, u2, u3, u4, u5, u6⟩ := hT.2.2.2.1 k hk8 (by omega)
  refine at_zald hZ hρ (by rw [u3, if_neg (by omega)]) (by rw [u4]; exact vp_in_nI hj (by omega)) hd ?_
  rw [nI_cl (by omega), u6 j hj]
  exact kk h hT
theorem twR_put {h : Hp} {k j : Nat} {x : Int32} (hk : tk k ≠ 0) (hT : TwR G m A h t) : TwR G m A (si h (A k) j x) (tu t k j x) := by
  have hk8 : k < 82 := tk_lt hk
  obtain ⟨t1, t2, t3, t4, t5⟩ := hT
  refine ⟨t1, t2, fun q hq hq0 => ?_, fun q hq hq0 => ?_, t5⟩
  · rw [iv_si, if_neg (fun z => (t4 k hk8 hk).2.2.2.2.1 z.1.symm), tu_nk, t3 q hq hq0]
    intro e
    subst e
    exact hk hq0
  · obtain ⟨u1, u2, u3, u4, u5, u6⟩ := t4 q hq hq0
    refine ⟨u1, u2, u3, u4, u5, fun i hi => ?_⟩
    rw [iv_si]
    by_cases e : q = k
    · subst e
      by_cases e2 : i = j
      · subst e2
        rw [if_pos ⟨rfl, rfl⟩, tu_eq]
      · rw [if_neg (fun z => e2 z.2), tu_ne _ _ (fun z => e2 z.2)]
        exact u6 i hi
    · rw [if_neg (fun z => e (t5 q k hq hk8 hq0 hk z.1)), tu_nk _ _ e]
      exact u6 i hi
theorem tw_iast (hZ : Bz G) (hρ : Good G ρ) {k j : Nat} {x : Int32} (hk : tk k = 1) (hj : j < tl k) (hd : decode M.2.1 pc = .ok (.iastore, 1)) (kk : AtT G ρ M f K m A (pc + 1) lo st (tu t k j x)) : AtT G ρ M f K m A pc lo (.int x :: .int (nI j) :: .ref (A k) :: st) t := by
  intro h hT
  have hk8 : k < 82 := tk_lt (by omega)
  have hl := tl_lt k hk8
  obtain ⟨u1, u2, u3, u4, u5, u6⟩ := hT.2.2.2.1 k hk8 (by omega)
  refine at_iast hZ hρ u2 (by rw [u3, if_pos hk]) (by rw [u4]; exact vp_in_nI hj (by omega)) hd ?_
  rw [nI_cl (by omega)]
  exact kk _ (twR_put (by omega) hT)
theorem tw_zast (hZ : Bz G) (hρ : Good G ρ) {k j : Nat} {x : Int32} (hk : tk k = 2) (hj : j < tl k) (hx : x = 0 ∨ x = 1) (hd : decode M.2.1 pc = .ok (.bastore, 1)) (kk : AtT G ρ M f K m A (pc + 1) lo st (tu t k j x)) : AtT G ρ M f K m A pc lo (.int x :: .int (nI j) :: .ref (A k) :: st) t := by
  intro h hT
  have hk8 : k < 82 := tk_lt (by omega)
  have hl := tl_lt k hk8
  obtain ⟨u1, u2, u3, u4, u5, u6⟩ := hT.2.2.2.1 k hk8 (by omega)
  refine at_zast hZ hρ u2 (by rw [u3, if_neg (by omega)]) (by rw [u4]; exact vp_in_nI hj (by omega)) hx hd ?_
  rw [nI_cl (by omega)]
  exact kk _ (twR_put (by omega) hT)
/-! calls and ends -/
theorem Cl.mono {N : Md} {f' mc ms : Nat} {as : List Value} {h : Hp} {K K' : Value → Hp → Prop} {X X' : String → Hp → Prop} (hC : Cl G ρ N f' mc ms as h K X) (h1 : ∀ v h, K v h → K' v h) (h2 : ∀ E h, X E h → X' E h) : Cl G ρ N f' mc ms as h K' X' := by
  intro p e a1 a2 a3 s m args below a4 a5 a6 a7
  obtain ⟨n, o, b1, b2, b3, b4⟩ := hC p e a1 a2 a3 s m args below a4 a5 a6 a7
  refine ⟨n, o, b1, b2, b3, ?_⟩
  rcases b4 with ⟨⟨v, h, e1, e2, e3⟩, L, hF⟩ | ⟨q, e1, E, ce, L, ⟨h, e2, e3⟩, rest⟩
  · exact Or.inl ⟨⟨v, h, e1, e2, h1 _ _ e3⟩, L, hF⟩
  · exact Or.inr ⟨q, e1, E, ce, L, ⟨h, e2, h2 _ _ e3⟩, rest⟩
theorem svM_v {N : Md} (hr : N.2.2.2.1.isSome = true) (v : Value) (st : List Value) : svM N v st = v :: st := if_pos hr
theorem svM_n {N : Md} (hr : N.2.2.2.1.isSome = false) (v : Value) (st : List Value) : svM N v st = st := if_neg (by rw [hr]; decide)
theorem tw_callV {N : Md} {na i f' : Nat} {As : List Value} (hZ : Bz G) (hρ : Good G ρ) (hN : KV N na) (hcls : cN 6 = N.1.cls) (hl : Cond.methodLink M.1.cls i N.1 ∈ lw_all) (hd : decode M.2.1 pc = .ok (.invokevirtual i, 3)) (hn : As.length = na) (hst : (st.map fun v => v.category).sum ≤ 8) {st0 : List Value} (he : As.reverse ++ .ref m :: st = st0) (hf : f' + 1 ≤ f) (hr : N.2.2.2.1.isSome = true)
    (hC : ClT G ρ N f' (.ref m :: As) (fun v t' => AtT G ρ M f K m A (pc + 3) lo (v :: st) t') m A t) : AtT G ρ M f K m A pc lo st0 t := by
  intro h hT
  refine at_callV (cb := 6) hZ hρ hN hcls (by decide) hl hd (Or.inl hT.2.1) hn hst he hf (Nat.zero_le _) (Nat.zero_le _) (Cl.mono (hC h hT) (fun v h' q => ?_) (fun E h' q => q.elim))
  obtain ⟨t', hT', hk⟩ := q
  rw [svM_v hr]
  exact hk h' hT'
theorem tw_callVv {N : Md} {na i f' : Nat} {As : List Value} (hZ : Bz G) (hρ : Good G ρ) (hN : KV N na) (hcls : cN 6 = N.1.cls) (hl : Cond.methodLink M.1.cls i N.1 ∈ lw_all) (hd : decode M.2.1 pc = .ok (.invokevirtual i, 3)) (hn : As.length = na) (hst : (st.map fun v => v.category).sum ≤ 8) {st0 : List Value} (he : As.reverse ++ .ref m :: st = st0) (hf : f' + 1 ≤ f) (hr : N.2.2.2.1.isSome = false)
    (hC : ClT G ρ N f' (.ref m :: As) (fun _ t' => AtT G ρ M f K m A (pc + 3) lo st t') m A t) : AtT G ρ M f K m A pc lo st0 t := by
  intro h hT
  refine at_callV (cb := 6) hZ hρ hN hcls (by decide) hl hd (Or.inl hT.2.1) hn hst he hf (Nat.zero_le _) (Nat.zero_le _) (Cl.mono (hC h hT) (fun v h' q => ?_) (fun E h' q => q.elim))
  obtain ⟨t', hT', hk⟩ := q
  rw [svM_n hr]
  exact hk h' hT'
theorem tw_callS {N : Md} {na i f' : Nat} {As : List Value} (hN : KS N na) (hl : Cond.methodLink M.1.cls i N.1 ∈ lw_all) (hd : decode M.2.1 pc = .ok (.invokestatic i, 3)) (hn : As.length = na) (hst : (st.map fun v => v.category).sum ≤ 8) {st0 : List Value} (he : As.reverse ++ st = st0) (hf : f' + 1 ≤ f) (hr : N.2.2.2.1.isSome = true)
    (hC : ClT G ρ N f' As (fun v t' => AtT G ρ M f K m A (pc + 3) lo (v :: st) t') m A t) : AtT G ρ M f K m A pc lo st0 t := by
  intro h hT
  refine at_callS hN hl hd hn hst he hf (Nat.zero_le _) (Nat.zero_le _) (Cl.mono (hC h hT) (fun v h' q => ?_) (fun E h' q => q.elim))
  obtain ⟨t', hT', hk⟩ := q
  rw [svM_v hr]
  exact hk h' hT'
theorem tw_ireturn {x : Int32} {ty : FieldType} (hret : M.2.2.2.1 = some ty) (hn : narrow ty (.int x) = .int x) (hd : decode M.2.1 pc = .ok (.ireturn, 1)) (hK : K (.int x) t) : AtT G ρ M f K m A pc lo [.int x] t :=
  fun h hT => at_ireturn hret hn hd ⟨t, hT, hK⟩
theorem tw_return (hret : M.2.2.2.1 = none) (hd : decode M.2.1 pc = .ok (.return_, 1)) (hK : K .null t) : AtT G ρ M f K m A pc lo [] t :=
  fun h hT => at_return hret hd ⟨t, hT, hK⟩
theorem ClT.of {As : List Value} {lo0 : List (Option Value)} (hp : plainName M.1.cls = true) (hc : ∀ v ∈ As, v.category = 1) (hle : As.length ≤ M.2.2.1) (hlo : lo0 = As.map some ++ List.replicate (M.2.2.1 - As.length) none) (kk : AtT G ρ M f K m A 0 lo0 [] t) : ClT G ρ M f As K m A t :=
  fun h hT => Cl.of hp hc hle hlo (kk h hT)
/-- true or false as 1 or 0 -/
theorem K_t {P : Prop} [Decidable P] {x : Int32} {K : Value → Tw → Prop} (hK : K (.int (if P then 1 else 0)) t) (hp : P) (hx : x = 1) : K (.int x) t := by
  rw [if_pos hp] at hK; rw [hx]; exact hK
theorem K_f {P : Prop} [Decidable P] {x : Int32} {K : Value → Tw → Prop} (hK : K (.int (if P then 1 else 0)) t) (hp : ¬ P) (hx : x = 0) : K (.int x) t := by
  rw [if_neg hp] at hK; rw [hx]; exact hK
theorem ite01 (P : Prop) [Decidable P] : (if P then (1 : Int32) else 0) = 0 ∨ (if P then (1 : Int32) else 0) = 1 := by
  by_cases h : P
  · rw [if_pos h]; exact Or.inr rfl
  · rw [if_neg h]; exact Or.inl rfl
end TwinRows
