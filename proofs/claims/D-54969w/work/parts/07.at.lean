/-! HEAP PICTURES AND THE JUDGEMENT 'At': a heap picture h says of each address what stands there: its tag (0: nothing that is known; c + 1: an object of class c; 99: a list; 100 + i: an array), its length, its ints, its references. -/
set_option maxRecDepth 100000
abbrev Hp : Type := (Nat → Nat) × (Nat → Nat) × (Nat → Nat → Int32) × (Nat → Nat → Option Nat)
def tg (h : Hp) (a : Nat) : Nat := h.1 a
def ln (h : Hp) (a : Nat) : Nat := h.2.1 a
def iv (h : Hp) (a k : Nat) : Int32 := h.2.2.1 a k
def rv (h : Hp) (a k : Nat) : Option Nat := h.2.2.2 a k
/-- an int, a reference is written -/
def si (h : Hp) (a k : Nat) (x : Int32) : Hp := (h.1, h.2.1, fun q j => if q = a ∧ j = k then x else h.2.2.1 q j, h.2.2.2)
def sr (h : Hp) (a k : Nat) (x : Option Nat) : Hp := (h.1, h.2.1, h.2.2.1, fun q j => if q = a ∧ j = k then x else h.2.2.2 q j)
/-- a cell is made -/
def nw (h : Hp) (a t n : Nat) : Hp := (fun q => if q = a then t else h.1 q, fun q => if q = a then n else h.2.1 q, fun q k => if q = a then 0 else h.2.2.1 q k, fun q k => if q = a then none else h.2.2.2 q k)
theorem tg_si (h : Hp) (a k : Nat) (x : Int32) (q : Nat) : tg (si h a k x) q = tg h q := rfl
theorem ln_si (h : Hp) (a k : Nat) (x : Int32) (q : Nat) : ln (si h a k x) q = ln h q := rfl
theorem rv_si (h : Hp) (a k : Nat) (x : Int32) (q j : Nat) : rv (si h a k x) q j = rv h q j := rfl
theorem iv_si (h : Hp) (a k : Nat) (x : Int32) (q j : Nat) : iv (si h a k x) q j = if q = a ∧ j = k then x else iv h q j := rfl
theorem tg_sr (h : Hp) (a k : Nat) (x : Option Nat) (q : Nat) : tg (sr h a k x) q = tg h q := rfl
theorem ln_sr (h : Hp) (a k : Nat) (x : Option Nat) (q : Nat) : ln (sr h a k x) q = ln h q := rfl
theorem iv_sr (h : Hp) (a k : Nat) (x : Option Nat) (q j : Nat) : iv (sr h a k x) q j = iv h q j := rfl
theorem rv_sr (h : Hp) (a k : Nat) (x : Option Nat) (q j : Nat) : rv (sr h a k x) q j = if q = a ∧ j = k then x else rv h q j := rfl
theorem tg_nw (h : Hp) (a t n q : Nat) : tg (nw h a t n) q = if q = a then t else tg h q := rfl
theorem ln_nw (h : Hp) (a t n q : Nat) : ln (nw h a t n) q = if q = a then n else ln h q := rfl
theorem iv_nw (h : Hp) (a t n q j : Nat) : iv (nw h a t n) q j = if q = a then 0 else iv h q j := rfl
theorem rv_nw (h : Hp) (a t n q j : Nat) : rv (nw h a t n) q j = if q = a then none else rv h q j := rfl
/-- the launch, the state at the law's start, the classes' numbers and slots, the arrays' classes -/
abbrev Gv : Type := Launch × State × va_G × (Nat → ClassId)
def zs (G : Gv) : Nat := G.2.1.heap.size
def fv (h : Hp) (c a k : Nat) : Value := if (cY c k).isReference = true then va_rf (rv h a k) else .int (iv h a k)
def av (h : Hp) (i a j : Nat) : Value := if i < 2 then .int (iv h a j) else if i = 2 then .long (iv h a j).toInt64 else va_rf (rv h a j)
def okt (G : Gv) (h : Hp) (a : Nat) (cell : Cell) : Prop :=
  (∀ c, tg h a = c + 1 → c < 23 → cell.cls = G.2.2.1.1 c ∧ ∀ k, k < cC c → cell.slots[G.2.2.1.2 c k]? = some (fv h c a k)) ∧
  (∀ i, tg h a = 100 + i → cell.cls = G.2.2.2 i ∧ cell.slots.size = ln h a ∧ ∀ j, j < ln h a → cell.slots[j]? = some (av h i a j)) ∧
  (tg h a = 99 → cell.cls = G.2.2.1.1 21)
def okc (G : Gv) (h : Hp) (a : Nat) (H : Heap) : Prop := ∃ cell : Cell, H[a]? = some cell ∧ cell.vm.isStatics = false ∧ cell.vm ≠ .unknown ∧ (zs G ≤ a → cell.vm = .none) ∧ okt G h a cell
/-- what the rows ask of a relation between pictures and heaps -/
def Good (G : Gv) (ρ : Hp → Heap → Prop) : Prop := ∀ h H, ρ h H →
  (∀ a, tg h a ≠ 0 → okc G h a H) ∧
  (∀ (h' : Hp) (H' : Heap) (a : Nat), zs G ≤ a → tg h a ≠ 0 → tg h a ≠ 99 → h'.1 = h.1 → h'.2.1 = h.2.1 → (∀ q k, q ≠ a → iv h' q k = iv h q k ∧ rv h' q k = rv h q k) → H'.size = H.size → (∀ q, q ≠ a → H'[q]? = H[q]?) → okc G h' a H' → ρ h' H') ∧
  (∀ (h' : Hp) (H' : Heap), zs G ≤ H.size → H'.size = H.size + 1 → (∀ q, q < H.size → H'[q]? = H[q]?) → (∀ q, q ≠ H.size → tg h' q = tg h q ∧ ln h' q = ln h q ∧ ∀ k, iv h' q k = iv h q k ∧ rv h' q k = rv h q k) → tg h' H.size ≠ 0 → tg h' H.size ≠ 99 → okc G h' H.size H' → ρ h' H') ∧
  (∀ H' : Heap, H.size ≤ H'.size → (∀ q, q < H.size → H'[q]? = H[q]?) → ρ h H')
def Rl (G : Gv) (ρ : Hp → Heap → Prop) (h : Hp) (H : Heap) : Prop := zs G ≤ H.size ∧ (∀ q : Nat, q < zs G → H[q]? = G.2.1.heap[q]?) ∧ ρ h H
/-- a method: its name, code, locals, type of its answer, handlers -/
abbrev Md : Type := MethodName × ByteArray × Nat × Option FieldType × Option (List (Nat × Nat × Nat × Nat))
def wsM (M : Md) : List Cond := match M.2.2.2.2 with
  | none => ws_ M.1 M.2.1 M.2.2.1 M.2.2.2.1
  | some hh => wsW_ M.1 M.2.1 M.2.2.1 M.2.2.2.1 hh
def hhM (M : Md) : List ExceptionTableEntry := match M.2.2.2.2 with
  | none => []
  | some hh => tableOf hh
def rmM (f mc ms : Nat) : Room := { frames := f, cells := mc, slots := ms, locals := 40 * f }
def lop : Nat → List (Option Value) → List (Nat × Value)
  | _, [] => []
  | i, none :: l => lop (i + 1) l
  | i, some v :: l => (i, v) :: lop (i + 1) l
def Qn (G : Gv) (ρ : Hp → Heap → Prop) (M : Md) (K : Value → Hp → Prop) : Array Value → State → Outcome → State → Prop := fun _ _ o t => ∃ (v : Value) (h : Hp), o = .returned (if M.2.2.2.1.isSome = true then some v else none) ∧ Rl G ρ h t.heap ∧ K v h
def Qx (G : Gv) (ρ : Hp → Heap → Prop) (X : String → Hp → Prop) : String → State → State → Prop := fun E _ t => ∃ h, Rl G ρ h t.heap ∧ X E h
def Pcl (G : Gv) (ρ : Hp → Heap → Prop) (as : List Value) (h : Hp) : Array Value → State → Prop := fun v U => v = as.toArray ∧ G.2.1.WarmedH U.vm ∧ Rl G ρ h U.heap
def fz (G : Gv) : Addr → Prop := fun q => zs G ≤ q
/-- a call: within f frames, mc cells of ms slots it returns with K or throws with X -/
def Cl (G : Gv) (ρ : Hp → Heap → Prop) (M : Md) (f mc ms : Nat) (as : List Value) (h : Hp) (K : Value → Hp → Prop) (X : String → Hp → Prop) : Prop :=
  vx_Met G.1 M.1 (wsM M) (rmM f mc ms) (Pcl G ρ as h) (Qn G ρ M K) (Qx G ρ X) mc ms (fz G)
def Cx (G : Gv) (M : Md) (f : Nat) (p : Program) (R : Room) (s : State) (m : MethodId) (args : Array Value) (meth : Method) (c : Code) : Prop :=
  CallFix p m c M.2.1 M.2.2.1 s args lw_all M.1.cls ∧ meth.sig.returnType = M.2.2.2.1 ∧ meth.locks = false ∧ meth.name = M.1.name ∧ G.2.1.WarmedH s.vm ∧ f ≤ R.frames ∧ 40 * f ≤ R.locals ∧ c.exceptionTable.toList = hhM M ∧ zs G ≤ s.heap.size ∧ (∀ q : Nat, q < zs G → s.heap[q]? = G.2.1.heap[q]?)
/-- within method M at pc: locals lo, stack st, picture h, k cells of n slots left: it returns with K or throws with X -/
def At (G : Gv) (ρ : Hp → Heap → Prop) (M : Md) (f : Nat) (K : Value → Hp → Prop) (X : String → Hp → Prop) (pc : Nat) (lo : List (Option Value)) (st : List Value) (h : Hp) (k n : Nat) : Prop :=
  ∀ (p : Program) (e : Env) (R : Room) (s : State) (m : MethodId) (args : Array Value) (below : List Frame) (meth : Method) (c : Code) (H : Heap) (locs : List Loc) (ls : Array Slot) (cells slots mc ms : Nat),
    Cx G M f p R s m args meth c → Rl G ρ h H → s.heap.size ≤ H.size → (∀ x ∈ locs, zs G ≤ x.base) → lv_has ls M.2.2.1 (lop 0 lo) → (∀ q ∈ lop 0 lo, q.2.category = 1) → cells + k ≤ mc → slots + n ≤ ms → mc ≤ R.cells → ms ≤ R.slots →
      W p G.1 e R s m args below meth c H locs cells slots (vx_MQ below (Qn G ρ M K) (Qx G ρ X) args s mc ms (fz G)) (F0 m pc ls st)
/-- the same, with an exception of class E thrown -/
def Ax (G : Gv) (ρ : Hp → Heap → Prop) (M : Md) (f : Nat) (K : Value → Hp → Prop) (X : String → Hp → Prop) (pc : Nat) (lo : List (Option Value)) (E : String) (h : Hp) (k n : Nat) : Prop :=
  ∀ (p : Program) (e : Env) (R : Room) (s : State) (m : MethodId) (args : Array Value) (below : List Frame) (meth : Method) (c : Code) (H : Heap) (locs : List Loc) (ls : Array Slot) (cells slots mc ms : Nat) (q : Addr) (ce : Cell) (rest : List Value),
    Cx G M f p R s m args meth c → Rl G ρ h H → s.heap.size ≤ H.size → (∀ x ∈ locs, zs G ≤ x.base) → lv_has ls M.2.2.1 (lop 0 lo) → (∀ q ∈ lop 0 lo, q.2.category = 1) → cells + k ≤ mc → slots + n ≤ ms → mc ≤ R.cells → ms ≤ R.slots → H[q]? = some ce → ce.vm = .none → s.vm.findClass E = some ce.cls →
      vx_W p G.1 e R s m args below meth c H locs cells slots (vx_MQ below (Qn G ρ M K) (Qx G ρ X) args s mc ms (fz G)) (F0 m pc ls rest) q
section AtRows
variable {G : Gv} {ρ : Hp → Heap → Prop} {M : Md} {f : Nat} {K : Value → Hp → Prop} {X : String → Hp → Prop} {pc : Nat} {lo : List (Option Value)} {st : List Value} {h : Hp} {k n : Nat}
/-- a row that moves pc and stack alone -/
theorem At.pure {pc' : Nat} {st' : List Value} (hs : ∀ (p : Program) (e : Env) (R : Room) (s : State) (m : MethodId) (args : Array Value) (below : List Frame) (meth : Method) (c : Code) (H : Heap) (locs : List Loc) (ls : Array Slot) (cells slots : Nat) (Q : State → Prop),
      p.tables.exec = Jvm.exec → c.code = M.2.1 → s.vm.findClass M.1.cls = some m.cls → (∀ w ∈ lw_all, w.before args s = true) → lv_has ls M.2.2.1 (lop 0 lo) → W p G.1 e R s m args below meth c H locs cells slots Q (F0 m pc' ls st') → W p G.1 e R s m args below meth c H locs cells slots Q (F0 m pc ls st))
    (kk : At G ρ M f K X pc' lo st' h k n) : At G ρ M f K X pc lo st h k n := by
  intro p e R s m args below meth c H locs ls cells slots mc ms C a1 a2 a3 a4 a5 a6 a7 a8 a9
  exact hs p e R s m args below meth c H locs ls cells slots _ C.1.1 C.1.2.1 C.1.2.2.2.1 C.1.2.2.2.2 a4 (kk p e R s m args below meth c H locs ls cells slots mc ms C a1 a2 a3 a4 a5 a6 a7 a8 a9)
theorem At.br {P : Prop} {pc1 pc2 : Nat} {st' : List Value} (hs : ∀ (p : Program) (e : Env) (R : Room) (s : State) (m : MethodId) (args : Array Value) (below : List Frame) (meth : Method) (c : Code) (H : Heap) (locs : List Loc) (ls : Array Slot) (cells slots : Nat) (Q : State → Prop),
      p.tables.exec = Jvm.exec → c.code = M.2.1 → (P → W p G.1 e R s m args below meth c H locs cells slots Q (F0 m pc1 ls st')) → (¬ P → W p G.1 e R s m args below meth c H locs cells slots Q (F0 m pc2 ls st')) → W p G.1 e R s m args below meth c H locs cells slots Q (F0 m pc ls st))
    (k1 : P → At G ρ M f K X pc1 lo st' h k n) (k2 : ¬ P → At G ρ M f K X pc2 lo st' h k n) : At G ρ M f K X pc lo st h k n := by
  intro p e R s m args below meth c H locs ls cells slots mc ms C a1 a2 a3 a4 a5 a6 a7 a8 a9
  exact hs p e R s m args below meth c H locs ls cells slots _ C.1.1 C.1.2.1 (fun q => k1 q p e R s m args below meth c H locs ls cells slots mc ms C a1 a2 a3 a4 a5 a6 a7 a8 a9) (fun q => k2 q p e R s m args below meth c H locs ls cells slots mc ms C a1 a2 a3 a4 a5 a6 a7 a8 a9)
theorem lop_mem {lo : List (Option Value)} {v : Value} : ∀ (b i : Nat), lo[i]? = some (some v) → (b + i, v) ∈ lop b lo := by
  induction lo with
  | nil => intro b i h; simp at h
  | cons x l ih =>
    intro b i h
    cases i with
    | zero =>
      simp at h
      subst h
      exact List.mem_cons_self
    | succ i =>
      simp at h
      have h2 := ih (b + 1) i h
      rw [show b + 1 + i = b + (i + 1) by omega] at h2
      cases x with
      | none => exact h2
      | some w => exact List.mem_cons_of_mem _ h2
theorem lop_of {lo : List (Option Value)} {q : Nat × Value} : ∀ (b : Nat), q ∈ lop b lo → ∃ i, q.1 = b + i ∧ lo[i]? = some (some q.2) := by
  induction lo with
  | nil => intro b h; cases h
  | cons x l ih =>
    intro b h
    cases x with
    | none =>
      obtain ⟨i, h1, h2⟩ := ih (b + 1) h
      exact ⟨i + 1, by omega, by simpa using h2⟩
    | some w =>
      rcases List.mem_cons.mp h with rfl | h
      · exact ⟨0, rfl, rfl⟩
      · obtain ⟨i, h1, h2⟩ := ih (b + 1) h
        exact ⟨i + 1, by omega, by simpa using h2⟩
theorem lop_get {ls : Array Slot} {nL : Nat} (hl : lv_has ls nL (lop 0 lo)) {i : Nat} {v : Value} (hi : lo[i]? = some (some v)) : ls[i]? = some (.val v) := by
  have h := hl.2.2 _ (lop_mem 0 i hi)
  simpa using h
theorem lop_set {ls : Array Slot} {nL i : Nat} {v : Value} (hc1 : ∀ q ∈ lop 0 lo, q.2.category = 1) (hl : lv_has ls nL ((i, v) :: (lop 0 lo).filter (fun q => !(q.1 == i) && !(q.1 + 1 == i && q.2.category == 2)))) : lv_has ls nL (lop 0 (lo.set i (some v))) := by
  refine ⟨hl.1, hl.2.1, fun q hq => ?_⟩
  obtain ⟨j, h1, h2⟩ := lop_of 0 hq
  refine hl.2.2 q ?_
  rw [List.getElem?_set] at h2
  by_cases hij : i = j
  · subst hij
    rw [if_pos rfl] at h2
    split at h2
    · have e : v = q.2 := by simpa using h2
      have e1 : q = (i, v) := by
        obtain ⟨q1, q2⟩ := q
        simp only at e h1
        rw [h1, e]; simp
      rw [e1]; exact List.mem_cons_self
    · cases h2
  · rw [if_neg hij] at h2
    have hm : q ∈ lop 0 lo := by
      have h3 := lop_mem (lo := lo) 0 j h2
      obtain ⟨q1, q2⟩ := q
      simp only at h1
      rw [h1]; exact h3
    refine List.mem_cons_of_mem _ (List.mem_filter.mpr ⟨hm, ?_⟩)
    have hne : ¬ q.1 = i := by omega
    simp [hne, hc1 q hm]
theorem lop_cat {i : Nat} {v : Value} (hc1 : ∀ q ∈ lop 0 lo, q.2.category = 1) (hv : v.category = 1) : ∀ q ∈ lop 0 (lo.set i (some v)), q.2.category = 1 := by
  intro q hq
  obtain ⟨j, h1, h2⟩ := lop_of 0 hq
  rw [List.getElem?_set] at h2
  by_cases hij : i = j
  · subst hij
    rw [if_pos rfl] at h2
    split at h2
    · have e : v = q.2 := by simpa using h2
      rw [← e]; exact hv
    · cases h2
  · rw [if_neg hij] at h2
    have h3 := lop_mem (lo := lo) 0 j h2
    exact hc1 (0 + j, q.2) h3
/-- some locals are forgotten -/
theorem At.drop {lo' : List (Option Value)} (hd : ∀ q ∈ lop 0 lo', q ∈ lop 0 lo) (kk : At G ρ M f K X pc lo' st h k n) : At G ρ M f K X pc lo st h k n := by
  intro p e R s m args below meth c H locs ls cells slots mc ms C a1 a2 a3 a4 a5 a6 a7 a8 a9
  exact kk p e R s m args below meth c H locs ls cells slots mc ms C a1 a2 a3 ⟨a4.1, a4.2.1, fun q hq => a4.2.2 q (hd q hq)⟩ (fun q hq => a5 q (hd q hq)) a6 a7 a8 a9
/-- locals to be forgotten, by a mask -/
def lmask : List Bool → List (Option Value) → List (Option Value)
  | _, [] => []
  | [], l => l
  | true :: b, x :: l => x :: lmask b l
  | false :: b, _ :: l => none :: lmask b l
theorem lmask_sub : ∀ (b : List Bool) (lo : List (Option Value)) (i : Nat), ∀ q ∈ lop i (lmask b lo), q ∈ lop i lo := by
  intro b lo
  induction lo generalizing b with
  | nil => intro i q hq; cases b <;> exact hq
  | cons x l ih =>
    intro i q hq
    cases b with
    | nil => exact hq
    | cons y b =>
      cases y with
      | true =>
        cases x with
        | none => exact ih b (i + 1) q hq
        | some w =>
          rcases List.mem_cons.mp hq with rfl | hq
          · exact List.mem_cons_self
          · exact List.mem_cons_of_mem _ (ih b (i + 1) q hq)
      | false =>
        have hq' : q ∈ lop (i + 1) (lmask b l) := hq
        cases x with
        | none => exact ih b (i + 1) q hq'
        | some w => exact List.mem_cons_of_mem _ (ih b (i + 1) q hq')
theorem At.mask (b : List Bool) {lo' : List (Option Value)} (e : lmask b lo = lo') (kk : At G ρ M f K X pc lo' st h k n) : At G ρ M f K X pc lo st h k n :=
  At.drop (fun q hq => lmask_sub b lo 0 q (by rw [e]; exact hq)) kk
/-- less room is enough -/
theorem At.less {k' n' : Nat} (h1 : k' ≤ k) (h2 : n' ≤ n) (kk : At G ρ M f K X pc lo st h k' n') : At G ρ M f K X pc lo st h k n := by
  intro p e R s m args below meth c H locs ls cells slots mc ms C a1 a2 a3 a4 a5 a6 a7 a8 a9
  exact kk p e R s m args below meth c H locs ls cells slots mc ms C a1 a2 a3 a4 a5 (by omega) (by omega) a8 a9
theorem At.store {i pc' : Nat} {v : Value} {lo' : List (Option Value)} (hs : ∀ (p : Program) (e : Env) (R : Room) (s : State) (m : MethodId) (args : Array Value) (below : List Frame) (meth : Method) (c : Code) (H : Heap) (locs : List Loc) (ls : Array Slot) (cells slots : Nat) (Q : State → Prop),
      p.tables.exec = Jvm.exec → c.code = M.2.1 → lv_has ls M.2.2.1 (lop 0 lo) → (∀ ls' : Array Slot, lv_has ls' M.2.2.1 ((i, v) :: (lop 0 lo).filter (fun q => !(q.1 == i) && !(q.1 + 1 == i && q.2.category == 2))) → W p G.1 e R s m args below meth c H locs cells slots Q (F0 m pc' ls' st)) → W p G.1 e R s m args below meth c H locs cells slots Q (F0 m pc ls (v :: st)))
    (hv : v.category = 1) (hlo : lo.set i (some v) = lo') (kk : At G ρ M f K X pc' lo' st h k n) : At G ρ M f K X pc lo (v :: st) h k n := by
  subst hlo
  intro p e R s m args below meth c H locs ls cells slots mc ms C a1 a2 a3 a4 a5 a6 a7 a8 a9
  exact hs p e R s m args below meth c H locs ls cells slots _ C.1.1 C.1.2.1 a4 (fun ls' hl' => kk p e R s m args below meth c H locs ls' cells slots mc ms C a1 a2 a3 (lop_set a5 hl') (lop_cat a5 hv) a6 a7 a8 a9)
theorem at_istore_n {j : Fin 4} {i : Nat} {x : Int32} {lo' : List (Option Value)} (hd : decode M.2.1 pc = .ok (.istore_n j, 1)) (hi : (j : Nat) = i) (hn : i < M.2.2.1) (hlo : lo.set i (some (.int x)) = lo') (kk : At G ρ M f K X (pc + 1) lo' st h k n) : At G ρ M f K X pc lo (.int x :: st) h k n :=
  At.store (fun _ _ _ _ _ _ _ _ _ _ _ _ _ _ _ hx hb hl k => lv_istore_n hx hb hd hi hl hn rfl k) rfl hlo kk
theorem at_istore {i : Nat} {x : Int32} {lo' : List (Option Value)} (hd : decode M.2.1 pc = .ok (.istore i, 2)) (hn : i < M.2.2.1) (hlo : lo.set i (some (.int x)) = lo') (kk : At G ρ M f K X (pc + 2) lo' st h k n) : At G ρ M f K X pc lo (.int x :: st) h k n :=
  At.store (fun _ _ _ _ _ _ _ _ _ _ _ _ _ _ _ hx hb hl k => lv_istore hx hb hd hl hn rfl k) rfl hlo kk
theorem rf_cat (r : Option Nat) : (va_rf r).category = 1 := by cases r <;> rfl
-- == pure rows ==
theorem at_iadd {x y : Int32} (hd : decode M.2.1 pc = .ok (.iadd, 1)) (kk : At G ρ M f K X (pc + 1) lo (.int (x + y) :: st) h k n) : At G ρ M f K X pc lo (.int y :: .int x :: st) h k n :=
  At.pure (fun _ _ _ _ _ _ _ _ _ _ _ _ _ _ _ hx hb ho hts hl k => lv_iadd hx hb hd k) kk
theorem at_isub {x y : Int32} (hd : decode M.2.1 pc = .ok (.isub, 1)) (kk : At G ρ M f K X (pc + 1) lo (.int (x - y) :: st) h k n) : At G ρ M f K X pc lo (.int y :: .int x :: st) h k n :=
  At.pure (fun _ _ _ _ _ _ _ _ _ _ _ _ _ _ _ hx hb ho hts hl k => lv_isub hx hb hd k) kk
theorem at_imul {x y : Int32} (hd : decode M.2.1 pc = .ok (.imul, 1)) (kk : At G ρ M f K X (pc + 1) lo (.int (x * y) :: st) h k n) : At G ρ M f K X pc lo (.int y :: .int x :: st) h k n :=
  At.pure (fun _ _ _ _ _ _ _ _ _ _ _ _ _ _ _ hx hb ho hts hl k => lv_imul hx hb hd k) kk
theorem at_iand {x y : Int32} (hd : decode M.2.1 pc = .ok (.iand, 1)) (kk : At G ρ M f K X (pc + 1) lo (.int (x &&& y) :: st) h k n) : At G ρ M f K X pc lo (.int y :: .int x :: st) h k n :=
  At.pure (fun _ _ _ _ _ _ _ _ _ _ _ _ _ _ _ hx hb ho hts hl k => lv_iand hx hb hd k) kk
theorem at_ior {x y : Int32} (hd : decode M.2.1 pc = .ok (.ior, 1)) (kk : At G ρ M f K X (pc + 1) lo (.int (x ||| y) :: st) h k n) : At G ρ M f K X pc lo (.int y :: .int x :: st) h k n :=
  At.pure (fun _ _ _ _ _ _ _ _ _ _ _ _ _ _ _ hx hb ho hts hl k => lv_ior hx hb hd k) kk
theorem at_ixor {x y : Int32} (hd : decode M.2.1 pc = .ok (.ixor, 1)) (kk : At G ρ M f K X (pc + 1) lo (.int (x ^^^ y) :: st) h k n) : At G ρ M f K X pc lo (.int y :: .int x :: st) h k n :=
  At.pure (fun _ _ _ _ _ _ _ _ _ _ _ _ _ _ _ hx hb ho hts hl k => lv_ixor hx hb hd k) kk
theorem at_ishl {x y : Int32} (hd : decode M.2.1 pc = .ok (.ishl, 1)) (kk : At G ρ M f K X (pc + 1) lo (.int (x <<< (y &&& 31)) :: st) h k n) : At G ρ M f K X pc lo (.int y :: .int x :: st) h k n :=
  At.pure (fun _ _ _ _ _ _ _ _ _ _ _ _ _ _ _ hx hb ho hts hl k => lv_ishl hx hb hd k) kk
theorem at_ishr {x y : Int32} (hd : decode M.2.1 pc = .ok (.ishr, 1)) (kk : At G ρ M f K X (pc + 1) lo (.int (x >>> (y &&& 31)) :: st) h k n) : At G ρ M f K X pc lo (.int y :: .int x :: st) h k n :=
  At.pure (fun _ _ _ _ _ _ _ _ _ _ _ _ _ _ _ hx hb ho hts hl k => lv_ishr hx hb hd k) kk
theorem at_idiv {x y : Int32} (hd : decode M.2.1 pc = .ok (.idiv, 1)) (hne : ¬ y = 0) (kk : At G ρ M f K X (pc + 1) lo (.int (x / y) :: st) h k n) : At G ρ M f K X pc lo (.int y :: .int x :: st) h k n :=
  At.pure (fun _ _ _ _ _ _ _ _ _ _ _ _ _ _ _ hx hb ho hts hl k => lv_idiv hx hb hd hne k) kk
theorem at_irem {x y : Int32} (hd : decode M.2.1 pc = .ok (.irem, 1)) (hne : ¬ y = 0) (kk : At G ρ M f K X (pc + 1) lo (.int (x - x / y * y) :: st) h k n) : At G ρ M f K X pc lo (.int y :: .int x :: st) h k n :=
  At.pure (fun _ _ _ _ _ _ _ _ _ _ _ _ _ _ _ hx hb ho hts hl k => lv_irem hx hb hd hne k) kk
theorem at_ineg {x : Int32} (hd : decode M.2.1 pc = .ok (.ineg, 1)) (kk : At G ρ M f K X (pc + 1) lo (.int (-x) :: st) h k n) : At G ρ M f K X pc lo (.int x :: st) h k n :=
  At.pure (fun _ _ _ _ _ _ _ _ _ _ _ _ _ _ _ hx hb ho hts hl k => lv_ineg hx hb hd k) kk
theorem at_i2l {x : Int32} (hd : decode M.2.1 pc = .ok (.i2l, 1)) (kk : At G ρ M f K X (pc + 1) lo (.long x.toInt64 :: st) h k n) : At G ρ M f K X pc lo (.int x :: st) h k n :=
  At.pure (fun _ _ _ _ _ _ _ _ _ _ _ _ _ _ _ hx hb ho hts hl k => lv_i2l hx hb hd rfl k) kk
theorem at_iconst {z : Int} {v : Int32} (hd : decode M.2.1 pc = .ok (.iconst z, 1)) (hv : Int32.ofInt z = v) (kk : At G ρ M f K X (pc + 1) lo (.int v :: st) h k n) : At G ρ M f K X pc lo (st) h k n :=
  At.pure (fun _ _ _ _ _ _ _ _ _ _ _ _ _ _ _ hx hb ho hts hl k => lv_iconst hx hb hd hv k) kk
theorem at_bipush {z : Int} {v : Int32} (hd : decode M.2.1 pc = .ok (.bipush z, 2)) (hv : (Int8.ofInt z).toInt32 = v) (kk : At G ρ M f K X (pc + 2) lo (.int v :: st) h k n) : At G ρ M f K X pc lo (st) h k n :=
  At.pure (fun _ _ _ _ _ _ _ _ _ _ _ _ _ _ _ hx hb ho hts hl k => lv_bipush hx hb hd hv k) kk
theorem at_sipush {z : Int} {v : Int32} (hd : decode M.2.1 pc = .ok (.sipush z, 3)) (hv : (Int16.ofInt z).toInt32 = v) (kk : At G ρ M f K X (pc + 3) lo (.int v :: st) h k n) : At G ρ M f K X pc lo (st) h k n :=
  At.pure (fun _ _ _ _ _ _ _ _ _ _ _ _ _ _ _ hx hb ho hts hl k => lv_sipush hx hb hd hv k) kk
theorem at_lconst {z : Fin 2} {v : Int64} (hd : decode M.2.1 pc = .ok (.lconst z, 1)) (hv : Int64.ofNat (z : Nat) = v) (kk : At G ρ M f K X (pc + 1) lo (.long v :: st) h k n) : At G ρ M f K X pc lo (st) h k n :=
  At.pure (fun _ _ _ _ _ _ _ _ _ _ _ _ _ _ _ hx hb ho hts hl k => lv_lconst hx hb hd hv k) kk
theorem at_iload_n {j : Fin 4} {i : Nat} {x : Int32} (hd : decode M.2.1 pc = .ok (.iload_n j, 1)) (hi : (j : Nat) = i) (hl0 : lo[i]? = some (some (.int x))) (kk : At G ρ M f K X (pc + 1) lo (.int x :: st) h k n) : At G ρ M f K X pc lo (st) h k n :=
  At.pure (fun _ _ _ _ _ _ _ _ _ _ _ _ _ _ _ hx hb ho hts hl k => lv_iload_n hx hb hd hi (lop_get hl hl0) k) kk
theorem at_iload {i : Nat} {x : Int32} (hd : decode M.2.1 pc = .ok (.iload i, 2)) (hl0 : lo[i]? = some (some (.int x))) (kk : At G ρ M f K X (pc + 2) lo (.int x :: st) h k n) : At G ρ M f K X pc lo (st) h k n :=
  At.pure (fun _ _ _ _ _ _ _ _ _ _ _ _ _ _ _ hx hb ho hts hl k => lv_iload hx hb hd (lop_get hl hl0) k) kk
theorem at_dup {v : Value} (hd : decode M.2.1 pc = .ok (.dup, 1)) (hv : v.category = 1) (kk : At G ρ M f K X (pc + 1) lo (v :: v :: st) h k n) : At G ρ M f K X pc lo (v :: st) h k n :=
  At.pure (fun _ _ _ _ _ _ _ _ _ _ _ _ _ _ _ hx hb ho hts hl k => lv_dup hx hb hd hv k) kk
theorem at_dup_x1 {v w : Value} (hd : decode M.2.1 pc = .ok (.dup_x1, 1)) (hv : v.category = 1) (hw : w.category = 1) (kk : At G ρ M f K X (pc + 1) lo (v :: w :: v :: st) h k n) : At G ρ M f K X pc lo (v :: w :: st) h k n :=
  At.pure (fun _ _ _ _ _ _ _ _ _ _ _ _ _ _ _ hx hb ho hts hl k => lv_dup_x1 hx hb hd hv hw k) kk
theorem at_dup2 {v w : Value} (hd : decode M.2.1 pc = .ok (.dup2, 1)) (hv : v.category = 1) (hw : w.category = 1) (kk : At G ρ M f K X (pc + 1) lo (v :: w :: v :: w :: st) h k n) : At G ρ M f K X pc lo (v :: w :: st) h k n :=
  At.pure (fun _ _ _ _ _ _ _ _ _ _ _ _ _ _ _ hx hb ho hts hl k => lv_dup2_11 hx hb hd hv hw k) kk
theorem at_pop {v : Value} (hd : decode M.2.1 pc = .ok (.pop, 1)) (hv : v.category = 1) (kk : At G ρ M f K X (pc + 1) lo (st) h k n) : At G ρ M f K X pc lo (v :: st) h k n :=
  At.pure (fun _ _ _ _ _ _ _ _ _ _ _ _ _ _ _ hx hb ho hts hl k => lv_pop hx hb hd hv k) kk
theorem at_null (hd : decode M.2.1 pc = .ok (.aconst_null, 1)) (kk : At G ρ M f K X (pc + 1) lo (.null :: st) h k n) : At G ρ M f K X pc lo (st) h k n :=
  At.pure (fun _ _ _ _ _ _ _ _ _ _ _ _ _ _ _ hx hb ho hts hl k => lv_null hx hb hd k) kk
theorem at_lcmp {x y : Int64} (hd : decode M.2.1 pc = .ok (.lcmp, 1)) (kk : At G ρ M f K X (pc + 1) lo (.int (lg_cmp x y) :: st) h k n) : At G ρ M f K X pc lo (.long y :: .long x :: st) h k n :=
  At.pure (fun _ _ _ _ _ _ _ _ _ _ _ _ _ _ _ hx hb ho hts hl k => W.lcmp hx hb hd k) kk
theorem at_ldc {i : Nat} {v : Int32} (hd : decode M.2.1 pc = .ok (.ldc i, 2)) (hc : Cond.constant M.1.cls i v ∈ lw_all) (kk : At G ρ M f K X (pc + 2) lo (.int v :: st) h k n) : At G ρ M f K X pc lo (st) h k n :=
  At.pure (fun _ _ _ _ _ _ _ _ _ _ _ _ _ _ _ hx hb ho hts hl k => lv_ldc hx hb ho (hts _ hc) hd k) kk
theorem at_ldcw {i : Nat} {v : Int32} (hd : decode M.2.1 pc = .ok (.ldc_w i, 3)) (hc : Cond.constant M.1.cls i v ∈ lw_all) (kk : At G ρ M f K X (pc + 3) lo (.int v :: st) h k n) : At G ρ M f K X pc lo (st) h k n :=
  At.pure (fun _ _ _ _ _ _ _ _ _ _ _ _ _ _ _ hx hb ho hts hl k => lv_ldcw hx hb ho (hts _ hc) hd k) kk
theorem at_goto {off : Int} {tgt : Nat} (hd : decode M.2.1 pc = .ok (.goto off, 3)) (ht : (pc : Int) + off = (tgt : Int)) (kk : At G ρ M f K X tgt lo st h k n) : At G ρ M f K X pc lo st h k n :=
  At.pure (fun _ _ _ _ _ _ _ _ _ _ _ _ _ _ _ hx hb ho hts hl k => lv_goto hx hb hd ht k) kk
theorem at_if_eq {x : Int32} {off : Int} {tgt : Nat} (hd : decode M.2.1 pc = .ok (.ifCond .eq off, 3)) (ht : (pc : Int) + off = (tgt : Int)) (k1 : x = 0 → At G ρ M f K X tgt lo st h k n) (k2 : ¬ (x = 0) → At G ρ M f K X (pc + 3) lo st h k n) : At G ρ M f K X pc lo (.int x :: st) h k n :=
  At.br (P := x = 0) (fun _ _ _ _ _ _ _ _ _ _ _ _ _ _ _ hx hb k1 k2 => lv_if_eq hx hb hd ht k1 k2) k1 k2
theorem at_icmp_eq {x y : Int32} {off : Int} {tgt : Nat} (hd : decode M.2.1 pc = .ok (.if_icmp .eq off, 3)) (ht : (pc : Int) + off = (tgt : Int)) (k1 : x = y → At G ρ M f K X tgt lo st h k n) (k2 : ¬ (x = y) → At G ρ M f K X (pc + 3) lo st h k n) : At G ρ M f K X pc lo (.int y :: .int x :: st) h k n :=
  At.br (P := x = y) (fun _ _ _ _ _ _ _ _ _ _ _ _ _ _ _ hx hb k1 k2 => lv_icmp_eq hx hb hd ht k1 k2) k1 k2
theorem at_if_ne {x : Int32} {off : Int} {tgt : Nat} (hd : decode M.2.1 pc = .ok (.ifCond .ne off, 3)) (ht : (pc : Int) + off = (tgt : Int)) (k1 : ¬ x = 0 → At G ρ M f K X tgt lo st h k n) (k2 : x = 0 → At G ρ M f K X (pc + 3) lo st h k n) : At G ρ M f K X pc lo (.int x :: st) h k n :=
  At.br (P := ¬ x = 0) (fun _ _ _ _ _ _ _ _ _ _ _ _ _ _ _ hx hb k1 k2 => lv_if_ne hx hb hd ht k1 (fun e => k2 (fun q => q e))) k1 (fun q => k2 (Decidable.not_not.mp q))
theorem at_icmp_ne {x y : Int32} {off : Int} {tgt : Nat} (hd : decode M.2.1 pc = .ok (.if_icmp .ne off, 3)) (ht : (pc : Int) + off = (tgt : Int)) (k1 : ¬ x = y → At G ρ M f K X tgt lo st h k n) (k2 : x = y → At G ρ M f K X (pc + 3) lo st h k n) : At G ρ M f K X pc lo (.int y :: .int x :: st) h k n :=
  At.br (P := ¬ x = y) (fun _ _ _ _ _ _ _ _ _ _ _ _ _ _ _ hx hb k1 k2 => lv_icmp_ne hx hb hd ht k1 (fun e => k2 (fun q => q e))) k1 (fun q => k2 (Decidable.not_not.mp q))
theorem at_if_lt {x : Int32} {off : Int} {tgt : Nat} (hd : decode M.2.1 pc = .ok (.ifCond .lt off, 3)) (ht : (pc : Int) + off = (tgt : Int)) (k1 : x < 0 → At G ρ M f K X tgt lo st h k n) (k2 : ¬ (x < 0) → At G ρ M f K X (pc + 3) lo st h k n) : At G ρ M f K X pc lo (.int x :: st) h k n :=
  At.br (P := x < 0) (fun _ _ _ _ _ _ _ _ _ _ _ _ _ _ _ hx hb k1 k2 => lv_if_lt hx hb hd ht k1 k2) k1 k2
theorem at_icmp_lt {x y : Int32} {off : Int} {tgt : Nat} (hd : decode M.2.1 pc = .ok (.if_icmp .lt off, 3)) (ht : (pc : Int) + off = (tgt : Int)) (k1 : x < y → At G ρ M f K X tgt lo st h k n) (k2 : ¬ (x < y) → At G ρ M f K X (pc + 3) lo st h k n) : At G ρ M f K X pc lo (.int y :: .int x :: st) h k n :=
  At.br (P := x < y) (fun _ _ _ _ _ _ _ _ _ _ _ _ _ _ _ hx hb k1 k2 => lv_icmp_lt hx hb hd ht k1 k2) k1 k2
theorem at_if_ge {x : Int32} {off : Int} {tgt : Nat} (hd : decode M.2.1 pc = .ok (.ifCond .ge off, 3)) (ht : (pc : Int) + off = (tgt : Int)) (k1 : 0 ≤ x → At G ρ M f K X tgt lo st h k n) (k2 : ¬ (0 ≤ x) → At G ρ M f K X (pc + 3) lo st h k n) : At G ρ M f K X pc lo (.int x :: st) h k n :=
  At.br (P := 0 ≤ x) (fun _ _ _ _ _ _ _ _ _ _ _ _ _ _ _ hx hb k1 k2 => lv_if_ge hx hb hd ht k1 k2) k1 k2
theorem at_icmp_ge {x y : Int32} {off : Int} {tgt : Nat} (hd : decode M.2.1 pc = .ok (.if_icmp .ge off, 3)) (ht : (pc : Int) + off = (tgt : Int)) (k1 : y ≤ x → At G ρ M f K X tgt lo st h k n) (k2 : ¬ (y ≤ x) → At G ρ M f K X (pc + 3) lo st h k n) : At G ρ M f K X pc lo (.int y :: .int x :: st) h k n :=
  At.br (P := y ≤ x) (fun _ _ _ _ _ _ _ _ _ _ _ _ _ _ _ hx hb k1 k2 => lv_icmp_ge hx hb hd ht k1 k2) k1 k2
theorem at_if_gt {x : Int32} {off : Int} {tgt : Nat} (hd : decode M.2.1 pc = .ok (.ifCond .gt off, 3)) (ht : (pc : Int) + off = (tgt : Int)) (k1 : 0 < x → At G ρ M f K X tgt lo st h k n) (k2 : ¬ (0 < x) → At G ρ M f K X (pc + 3) lo st h k n) : At G ρ M f K X pc lo (.int x :: st) h k n :=
  At.br (P := 0 < x) (fun _ _ _ _ _ _ _ _ _ _ _ _ _ _ _ hx hb k1 k2 => lv_if_gt hx hb hd ht k1 k2) k1 k2
theorem at_icmp_gt {x y : Int32} {off : Int} {tgt : Nat} (hd : decode M.2.1 pc = .ok (.if_icmp .gt off, 3)) (ht : (pc : Int) + off = (tgt : Int)) (k1 : y < x → At G ρ M f K X tgt lo st h k n) (k2 : ¬ (y < x) → At G ρ M f K X (pc + 3) lo st h k n) : At G ρ M f K X pc lo (.int y :: .int x :: st) h k n :=
  At.br (P := y < x) (fun _ _ _ _ _ _ _ _ _ _ _ _ _ _ _ hx hb k1 k2 => lv_icmp_gt hx hb hd ht k1 k2) k1 k2
theorem at_if_le {x : Int32} {off : Int} {tgt : Nat} (hd : decode M.2.1 pc = .ok (.ifCond .le off, 3)) (ht : (pc : Int) + off = (tgt : Int)) (k1 : x ≤ 0 → At G ρ M f K X tgt lo st h k n) (k2 : ¬ (x ≤ 0) → At G ρ M f K X (pc + 3) lo st h k n) : At G ρ M f K X pc lo (.int x :: st) h k n :=
  At.br (P := x ≤ 0) (fun _ _ _ _ _ _ _ _ _ _ _ _ _ _ _ hx hb k1 k2 => lv_if_le hx hb hd ht k1 k2) k1 k2
theorem at_icmp_le {x y : Int32} {off : Int} {tgt : Nat} (hd : decode M.2.1 pc = .ok (.if_icmp .le off, 3)) (ht : (pc : Int) + off = (tgt : Int)) (k1 : x ≤ y → At G ρ M f K X tgt lo st h k n) (k2 : ¬ (x ≤ y) → At G ρ M f K X (pc + 3) lo st h k n) : At G ρ M f K X pc lo (.int y :: .int x :: st) h k n :=
  At.br (P := x ≤ y) (fun _ _ _ _ _ _ _ _ _ _ _ _ _ _ _ hx hb k1 k2 => lv_icmp_le hx hb hd ht k1 k2) k1 k2
theorem isRef_rf (r : Option Nat) : (va_rf r).isRef = true := by cases r <;> rfl
theorem rf_of {v : Value} (hv : v.isRef = true) : v = .null ∨ ∃ a, v = .ref a := by
  cases v with
  | null => exact Or.inl rfl
  | ref a => exact Or.inr ⟨a, rfl⟩
  | _ => exact absurd hv (by simp [Value.isRef])
theorem at_aload_n {j : Fin 4} {i : Nat} {v : Value} (hd : decode M.2.1 pc = .ok (.aload_n j, 1)) (hi : (j : Nat) = i) (hl0 : lo[i]? = some (some v)) (hv : v.isRef = true) (kk : At G ρ M f K X (pc + 1) lo (v :: st) h k n) : At G ρ M f K X pc lo st h k n := by
  refine At.pure (fun _ _ _ _ _ _ _ _ _ _ _ _ _ _ _ hx hb ho hts hl k => ?_) kk
  rcases rf_of hv with rfl | ⟨a, rfl⟩
  · exact lv_aload_nN hx hb hd hi (lop_get hl hl0) k
  · exact lv_aload_n hx hb hd hi (lop_get hl hl0) k
theorem at_aload {i : Nat} {v : Value} (hd : decode M.2.1 pc = .ok (.aload i, 2)) (hl0 : lo[i]? = some (some v)) (hv : v.isRef = true) (kk : At G ρ M f K X (pc + 2) lo (v :: st) h k n) : At G ρ M f K X pc lo st h k n := by
  refine At.pure (fun _ _ _ _ _ _ _ _ _ _ _ _ _ _ _ hx hb ho hts hl k => ?_) kk
  rcases rf_of hv with rfl | ⟨a, rfl⟩
  · exact lv_aloadN hx hb hd (lop_get hl hl0) k
  · exact lv_aload hx hb hd (lop_get hl hl0) k
theorem isRef_cat {v : Value} (hv : v.isRef = true) : v.category = 1 := by rcases rf_of hv with rfl | ⟨a, rfl⟩ <;> rfl
theorem at_astore_n {j : Fin 4} {i : Nat} {v : Value} {lo' : List (Option Value)} (hd : decode M.2.1 pc = .ok (.astore_n j, 1)) (hi : (j : Nat) = i) (hn : i < M.2.2.1) (hv : v.isRef = true) (hlo : lo.set i (some v) = lo') (kk : At G ρ M f K X (pc + 1) lo' st h k n) : At G ρ M f K X pc lo (v :: st) h k n := by
  refine At.store (fun _ _ _ _ _ _ _ _ _ _ _ _ _ _ _ hx hb hl k => ?_) (isRef_cat hv) hlo kk
  rcases rf_of hv with rfl | ⟨a, rfl⟩
  · exact lv_astore_nN hx hb hd hi hl hn rfl k
  · exact lv_astore_n hx hb hd hi hl hn rfl k
theorem at_astore {i : Nat} {v : Value} {lo' : List (Option Value)} (hd : decode M.2.1 pc = .ok (.astore i, 2)) (hn : i < M.2.2.1) (hv : v.isRef = true) (hlo : lo.set i (some v) = lo') (kk : At G ρ M f K X (pc + 2) lo' st h k n) : At G ρ M f K X pc lo (v :: st) h k n := by
  refine At.store (fun _ _ _ _ _ _ _ _ _ _ _ _ _ _ _ hx hb hl k => ?_) (isRef_cat hv) hlo kk
  rcases rf_of hv with rfl | ⟨a, rfl⟩
  · exact lv_astoreN hx hb hd hl hn rfl k
  · exact lv_astore hx hb hd hl hn rfl k
theorem at_iinc {i : Nat} {z : Int} {x v : Int32} {lo' : List (Option Value)} (hd : decode M.2.1 pc = .ok (.iinc i z, 3)) (hl0 : lo[i]? = some (some (.int x))) (hn : i < M.2.2.1) (hv : x + Int32.ofInt z = v) (hlo : lo.set i (some (.int v)) = lo') (kk : At G ρ M f K X (pc + 3) lo' st h k n) : At G ρ M f K X pc lo st h k n := by
  subst hlo
  intro p e R s m args below meth c H locs ls cells slots mc ms C a1 a2 a3 a4 a5 a6 a7 a8 a9
  obtain ⟨q, hq⟩ := List.getElem?_of_mem (lop_mem 0 i hl0)
  have hq' : (lop 0 lo)[q]? = some (i, .int x) := by rw [hq]; simp
  exact lv_iinc C.1.1 C.1.2.1 hd a4 hq' hv hn rfl (fun ls' hl' => kk p e R s m args below meth c H locs ls' cells slots mc ms C a1 a2 a3 (lop_set a5 hl') (lop_cat a5 rfl) a6 a7 a8 a9)
/-- ifnull, ifnonnull on a reference that is known to be one, or null -/
theorem at_ifnullR {a : Nat} {off : Int} (hd : decode M.2.1 pc = .ok (.ifnull off, 3)) (kk : At G ρ M f K X (pc + 3) lo st h k n) : At G ρ M f K X pc lo (.ref a :: st) h k n :=
  At.pure (fun _ _ _ _ _ _ _ _ _ _ _ _ _ _ _ hx hb ho hts hl k => lv_ifnull hx hb hd k) kk
theorem at_ifnullN {off : Int} {tgt : Nat} (hd : decode M.2.1 pc = .ok (.ifnull off, 3)) (ht : (pc : Int) + off = (tgt : Int)) (kk : At G ρ M f K X tgt lo st h k n) : At G ρ M f K X pc lo (.null :: st) h k n :=
  At.pure (fun _ _ _ _ _ _ _ _ _ _ _ _ _ _ _ hx hb ho hts hl k => lv_ifnullN hx hb hd ht k) kk
theorem at_ifnonnullR {a : Nat} {off : Int} {tgt : Nat} (hd : decode M.2.1 pc = .ok (.ifnonnull off, 3)) (ht : (pc : Int) + off = (tgt : Int)) (kk : At G ρ M f K X tgt lo st h k n) : At G ρ M f K X pc lo (.ref a :: st) h k n :=
  At.pure (fun _ _ _ _ _ _ _ _ _ _ _ _ _ _ _ hx hb ho hts hl k => lv_ifnonnull hx hb hd ht k) kk
theorem at_ifnonnullN {off : Int} (hd : decode M.2.1 pc = .ok (.ifnonnull off, 3)) (kk : At G ρ M f K X (pc + 3) lo st h k n) : At G ρ M f K X pc lo (.null :: st) h k n :=
  At.pure (fun _ _ _ _ _ _ _ _ _ _ _ _ _ _ _ hx hb ho hts hl k => lv_ifnonnullN hx hb hd k) kk
theorem at_ifnull {r : Option Nat} {off : Int} {tgt : Nat} (hd : decode M.2.1 pc = .ok (.ifnull off, 3)) (ht : (pc : Int) + off = (tgt : Int)) (k1 : r = none → At G ρ M f K X tgt lo st h k n) (k2 : ∀ a, r = some a → At G ρ M f K X (pc + 3) lo st h k n) : At G ρ M f K X pc lo (va_rf r :: st) h k n := by
  cases r with
  | none => exact at_ifnullN hd ht (k1 rfl)
  | some a => exact at_ifnullR hd (k2 a rfl)
theorem at_ifnonnull {r : Option Nat} {off : Int} {tgt : Nat} (hd : decode M.2.1 pc = .ok (.ifnonnull off, 3)) (ht : (pc : Int) + off = (tgt : Int)) (k1 : ∀ a, r = some a → At G ρ M f K X tgt lo st h k n) (k2 : r = none → At G ρ M f K X (pc + 3) lo st h k n) : At G ρ M f K X pc lo (va_rf r :: st) h k n := by
  cases r with
  | none => exact at_ifnonnullN hd (k2 rfl)
  | some a => exact at_ifnonnullR hd ht (k1 a rfl)
theorem rf_inj {r r' : Option Nat} (e : va_rf r = va_rf r') : r = r' := by cases r <;> cases r' <;> simp_all [va_rf]
theorem rf_ex {v : Value} (hv : v.isRef = true) : ∃ r, v = va_rf r := by
  rcases rf_of hv with rfl | ⟨a, rfl⟩
  · exact ⟨none, rfl⟩
  · exact ⟨some a, rfl⟩
theorem at_acmp_eq {v w : Value} {off : Int} {tgt : Nat} (hd : decode M.2.1 pc = .ok (.if_acmp .eq off, 3)) (ht : (pc : Int) + off = (tgt : Int)) (hv : v.isRef = true) (hw : w.isRef = true) (k1 : v = w → At G ρ M f K X tgt lo st h k n) (k2 : ¬ v = w → At G ρ M f K X (pc + 3) lo st h k n) : At G ρ M f K X pc lo (w :: v :: st) h k n := by
  obtain ⟨r, rfl⟩ := rf_ex hv
  obtain ⟨r', rfl⟩ := rf_ex hw
  exact At.br (P := r = r') (fun _ _ _ _ _ _ _ _ _ _ _ _ _ _ _ hx hb k1 k2 => lv_acmp_eq hx hb hd ht k1 k2) (fun e => k1 (by rw [e])) (fun e => k2 (fun q => e (rf_inj q)))
theorem at_acmp_ne {v w : Value} {off : Int} {tgt : Nat} (hd : decode M.2.1 pc = .ok (.if_acmp .ne off, 3)) (ht : (pc : Int) + off = (tgt : Int)) (hv : v.isRef = true) (hw : w.isRef = true) (k1 : ¬ v = w → At G ρ M f K X tgt lo st h k n) (k2 : v = w → At G ρ M f K X (pc + 3) lo st h k n) : At G ρ M f K X pc lo (w :: v :: st) h k n := by
  obtain ⟨r, rfl⟩ := rf_ex hv
  obtain ⟨r', rfl⟩ := rf_ex hw
  exact At.br (P := ¬ r = r') (fun _ _ _ _ _ _ _ _ _ _ _ _ _ _ _ hx hb k1 k2 => lv_acmp_ne hx hb hd ht k1 (fun e => k2 (fun q => q e))) (fun e => k1 (fun q => e (rf_inj q))) (fun e => k2 (by rw [Decidable.not_not.mp e]))
end AtRows
