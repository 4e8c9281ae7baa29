/-! THE HEAP's ROWS AND THE CALLS for 'At' -/
set_option maxRecDepth 100000
/-- what is known at the law's start -/
def Bz (G : Gv) : Prop :=
  G.1.stackTraces = false ∧
  (∀ c, c < 23 → u_Kn G.2.1 (cN c) (cT c) (cC c) (G.2.2.1.1 c) (G.2.2.1.2 c)) ∧
  (∀ i, i < 8 → ∃ (kA : Class) (comp : ClassId), G.2.1.vm.classes[G.2.2.2 i]? = some kA ∧ kA.kind = .array comp (aY i) ∧ G.2.1.vm.findClass ("[" ++ (aY i).toString) = some (G.2.2.2 i) ∧ ∀ C, aY i = .object C → G.2.1.vm.findClass C = some comp) ∧
  (∃ az : Array Value, ∀ w ∈ lw_tbl, w.before az G.2.1 = true)
section Help
variable {G : Gv} {ρ : Hp → Heap → Prop}
theorem okc_lt {h : Hp} {a : Nat} {H : Heap} (hk : okc G h a H) : a < H.size := by
  obtain ⟨cell, h1, -⟩ := hk
  exact (Array.getElem?_eq_some_iff.mp h1).1
theorem tg_fresh (hρ : Good G ρ) {h : Hp} {H : Heap} (hr : ρ h H) : tg h H.size = 0 := by
  apply Decidable.byContradiction
  intro hne
  have := okc_lt ((hρ h H hr).1 _ hne)
  omega
theorem vmS {d : VmData} (h : d.isStatics = false) : ∀ q, d ≠ .statics q := by
  intro q e
  rw [e] at h
  cases h
theorem vmN {d : VmData} (h : d = .none) : d.isStatics = false ∧ d ≠ .unknown := by
  rw [h]; exact ⟨rfl, fun e => by cases e⟩
theorem arr_at {s : State} (hZ : Bz G) (hal : G.2.1.vm.Alike s.vm) {i : Nat} (hi : i < 8) {cell : Cell} (hc : cell.cls = G.2.2.2 i) (hs : cell.vm.isStatics = false) : s.isArrayOf cell (aY i) := by
  obtain ⟨kA, comp, h1, h2, -⟩ := hZ.2.2.1 i hi
  obtain ⟨k', hk', he⟩ := hal.2.2 _ _ h1
  exact ⟨vmS hs, k', by rw [hc]; exact hk', comp, by rw [he]; exact h2⟩
theorem put_Rl (hρ : Good G ρ) {h h' : Hp} {H H' : Heap} {a : Nat} (hr : Rl G ρ h H) (ha : zs G ≤ a) (ht : tg h a ≠ 0) (ht9 : tg h a ≠ 99) (e1 : h'.1 = h.1) (e2 : h'.2.1 = h.2.1) (e3 : ∀ q k, q ≠ a → iv h' q k = iv h q k ∧ rv h' q k = rv h q k) (z : H'.size = H.size) (o : ∀ q, q ≠ a → H'[q]? = H[q]?) (hk : okc G h' a H') : Rl G ρ h' H' :=
  ⟨by rw [z]; exact hr.1, fun q hq => by rw [o q (by omega)]; exact hr.2.1 q hq, (hρ h H hr.2.2).2.1 h' H' a ha ht ht9 e1 e2 e3 z o hk⟩
theorem new_Rl (hρ : Good G ρ) {h h' : Hp} {H H' : Heap} (hr : Rl G ρ h H) (z : H'.size = H.size + 1) (o : ∀ q, q < H.size → H'[q]? = H[q]?) (e : ∀ q, q ≠ H.size → tg h' q = tg h q ∧ ln h' q = ln h q ∧ ∀ k, iv h' q k = iv h q k ∧ rv h' q k = rv h q k) (ht : tg h' H.size ≠ 0) (ht9 : tg h' H.size ≠ 99) (hk : okc G h' H.size H') : Rl G ρ h' H' :=
  ⟨by have := hr.1; omega, fun q hq => by rw [o q (by have := hr.1; omega)]; exact hr.2.1 q hq, (hρ h H hr.2.2).2.2.1 h' H' hr.1 z o e ht ht9 hk⟩
theorem slots_apart {c : Nat} {s : State} {args : Array Value} (hZ : Bz G) (hal : G.2.1.vm.Alike s.vm) (hts : ∀ w ∈ lw_all, w.before args s = true) (hc : c < 23) : ∀ x y, x < cC c → y < cC c → x ≠ y → G.2.2.1.2 c x ≠ G.2.2.1.2 c y := by
  intro x y hx hy hne
  obtain ⟨hS, -⟩ := u_Kn_moved hal (hZ.2.1 c hc)
  obtain ⟨_, _, _, fa, hia, ea⟩ := hS x hx
  obtain ⟨_, _, _, fb, hib, eb⟩ := hS y hy
  rw [← ea, ← eb]
  refine u_apart (u_lays hts (cI c hc) hx) (u_lays hts (cI c hc) hy) hia hib ?_
  rw [(State.fieldFound?_type hia (cYok c hc x hx)).1, (State.fieldFound?_type hib (cYok c hc y hy)).1]
  exact cNm c hc x hx y hy hne
end Help
section HeapRows
variable {G : Gv} {ρ : Hp → Heap → Prop} {M : Md} {f : Nat} {K : Value → Hp → Prop} {X : String → Hp → Prop} {pc : Nat} {lo : List (Option Value)} {st : List Value} {h : Hp} {k n : Nat}
theorem at_getf {c j i a : Nat} (hZ : Bz G) (hρ : Good G ρ) (hc : c < 23) (hj : j < cC c) (hl : Cond.fieldLink M.1.cls i (cT c j).1 (cT c j).2.1 (cT c j).2.2.1 ∈ lw_all) (hd : decode M.2.1 pc = .ok (.getfield i, 3)) (ht : tg h a = c + 1) (kk : At G ρ M f K X (pc + 3) lo (fv h c a j :: st) h k n) : At G ρ M f K X pc lo (.ref a :: st) h k n := by
  intro p e R s m args below meth c0 H locs ls cells slots mc ms C a1 a2 a3 a4 a5 a6 a7 a8 a9
  obtain ⟨cell, hcell, hst, hkn, hvm, ho, -, -⟩ := (hρ h H a1.2.2).1 a (by rw [ht]; omega)
  obtain ⟨hcls, hslots⟩ := ho c ht hc
  obtain ⟨hS, hfc, kC, hkC, hkind⟩ := u_Kn_moved C.2.2.2.2.1.alike (hZ.2.1 c hc)
  obtain ⟨cf, kf, fi, fd, hi, hsl⟩ := hS j hj
  refine W.getf C.1.1 C.1.2.1 C.1.2.2.2.1 (C.1.2.2.2.2 _ hl) hi (u_facts hfc hkC (u_lays C.1.2.2.2.2 (cI c hc) hj) hi).1 hcell hkn (v := fv h c a j) ?_ rfl rfl hd (kk p e R s m args below meth c0 H locs ls cells slots mc ms C a1 a2 a3 a4 a5 a6 a7 a8 a9)
  rw [hsl]; exact hslots j hj
theorem at_geti {c j i a : Nat} (hZ : Bz G) (hρ : Good G ρ) (hc : c < 23) (hj : j < cC c) (hy : (cY c j).isReference = false) (hl : Cond.fieldLink M.1.cls i (cT c j).1 (cT c j).2.1 (cT c j).2.2.1 ∈ lw_all) (hd : decode M.2.1 pc = .ok (.getfield i, 3)) (ht : tg h a = c + 1) (kk : At G ρ M f K X (pc + 3) lo (.int (iv h a j) :: st) h k n) : At G ρ M f K X pc lo (.ref a :: st) h k n :=
  at_getf hZ hρ hc hj hl hd ht (by unfold fv; rw [if_neg (by rw [hy]; decide)]; exact kk)
theorem at_getr {c j i a : Nat} (hZ : Bz G) (hρ : Good G ρ) (hc : c < 23) (hj : j < cC c) (hy : (cY c j).isReference = true) (hl : Cond.fieldLink M.1.cls i (cT c j).1 (cT c j).2.1 (cT c j).2.2.1 ∈ lw_all) (hd : decode M.2.1 pc = .ok (.getfield i, 3)) (ht : tg h a = c + 1) (kk : At G ρ M f K X (pc + 3) lo (va_rf (rv h a j) :: st) h k n) : At G ρ M f K X pc lo (.ref a :: st) h k n :=
  at_getf hZ hρ hc hj hl hd ht (by unfold fv; rw [if_pos hy]; exact kk)
theorem updV_ne {V : Nat → Value} {j j' : Nat} {v : Value} (e : ¬ j' = j) : updV V j v j' = V j' := if_neg e
theorem updV_eq {V : Nat → Value} {j : Nat} {v : Value} : updV V j v j = v := if_pos rfl
theorem fv_si {h : Hp} {c a j : Nat} {x : Int32} (hy : (cY c j).isReference = false) : ∀ j', fv (si h a j x) c a j' = updV (fv h c a) j (.int x) j' := by
  intro j'
  by_cases e : j' = j
  · subst e
    rw [updV_eq]
    unfold fv
    rw [if_neg (by rw [hy]; decide), iv_si, if_pos ⟨rfl, rfl⟩]
  · rw [updV_ne e]
    unfold fv
    rw [iv_si, rv_si, if_neg (fun q : a = a ∧ j' = j => e q.2)]
theorem fv_sr {h : Hp} {c a j : Nat} {x : Option Nat} (hy : (cY c j).isReference = true) : ∀ j', fv (sr h a j x) c a j' = updV (fv h c a) j (va_rf x) j' := by
  intro j'
  by_cases e : j' = j
  · subst e
    rw [updV_eq]
    unfold fv
    rw [if_pos hy, rv_sr, if_pos ⟨rfl, rfl⟩]
  · rw [updV_ne e]
    unfold fv
    rw [rv_sr, iv_sr, if_neg (fun q : a = a ∧ j' = j => e q.2)]
theorem put_okc {c j a : Nat} {h h' : Hp} {H' : Heap} {s : State} {args : Array Value} {cell : Cell} {v : Value} (hZ : Bz G) (hal : G.2.1.vm.Alike s.vm) (hts : ∀ w ∈ lw_all, w.before args s = true) (hc : c < 23) (hj : j < cC c) (ha : zs G ≤ a) (ht : tg h a = c + 1) (hvm : cell.vm = .none) (ho : okt G h a cell) (e1 : h'.1 = h.1) (hv : ∀ j', fv h' c a j' = updV (fv h c a) j v j') (hH : H'[a]? = some (cell.setSlot (G.2.2.1.2 c j) v)) : okc G h' a H' := by
  obtain ⟨hcls, hslots⟩ := ho.1 c ht hc
  have ht' : tg h' a = c + 1 := by unfold tg; rw [e1]; exact ht
  refine ⟨_, hH, (vmN hvm).1, (vmN hvm).2, fun _ => hvm, ?_, ?_, ?_⟩
  · intro c' hc' hlt
    have hcc : c' = c := by omega
    subst hcc
    refine ⟨hcls, fun j' hj' => ?_⟩
    rw [hv j']
    exact t_set hslots (slots_apart hZ hal hts hc) hj v j' hj'
  · intro i hi
    omega
  · intro h9
    omega
theorem at_put {c j i a : Nat} {v : Value} {h' : Hp} (hZ : Bz G) (hρ : Good G ρ) (hc : c < 23) (hj : j < cC c) (hl : Cond.fieldLink M.1.cls i (cT c j).1 (cT c j).2.1 (cT c j).2.2.1 ∈ lw_all) (hd : decode M.2.1 pc = .ok (.putfield i, 3)) (hfin : (cT c j).2.2.2 = false ∨ (M.1.name = "<init>" ∧ (cT c j).2.2.2 = true ∧ (cT c j).1 = M.1.cls)) (hn : narrow (cY c j) v = v) (hf : fits (cY c j) v = true) (ht : tg h a = c + 1) (ha : zs G ≤ a)
    (e1 : h'.1 = h.1) (e2 : h'.2.1 = h.2.1) (e3 : ∀ q k, q ≠ a → iv h' q k = iv h q k ∧ rv h' q k = rv h q k) (hv : ∀ j', fv h' c a j' = updV (fv h c a) j v j') (kk : At G ρ M f K X (pc + 3) lo st h' k n) : At G ρ M f K X pc lo (v :: .ref a :: st) h k n := by
  intro p e R s m args below meth c0 H locs ls cells slots mc ms C a1 a2 a3 a4 a5 a6 a7 a8 a9
  obtain ⟨cell, hcell, hst, hkn, hvm, hot⟩ := (hρ h H a1.2.2).1 a (by rw [ht]; omega)
  obtain ⟨hcls, hslots⟩ := hot.1 c ht hc
  have hal := C.2.2.2.2.1.alike
  obtain ⟨hS, hfc, kC, hkC, hkind⟩ := u_Kn_moved hal (hZ.2.1 c hc)
  obtain ⟨cf, kf, fi, fd, hi, hsl⟩ := hS j hj
  have hvm := hvm ha
  have hst2 := (u_facts hfc hkC (u_lays C.1.2.2.2.2 (cI c hc) hj) hi).1
  have hlay := C.1.2.2.2.2 _ (cI c hc _ (u_in_lay hj))
  unfold u_lay at hlay
  have hlt : fd.slot < cell.slots.size := by rw [hsl]; exact k2_hasslot (hslots j hj)
  have fin : ∀ H' : Heap, H'[a]? = some (cell.setSlot fd.slot v) → H'.size = H.size → (∀ q, q ≠ a → H'[q]? = H[q]?) → W p G.1 e R s m args below meth c0 H' (locs ++ [⟨a, fd.slot⟩]) cells slots (vx_MQ below (Qn G ρ M K) (Qx G ρ X) args s mc ms (fz G)) (F0 m (pc + 3) ls st) := by
    intro H' g1 g2 g3
    rw [hsl] at g1
    refine kk p e R s m args below meth c0 H' _ ls cells slots mc ms C (put_Rl hρ a1 ha (by rw [ht]; omega) (by rw [ht]; omega) e1 e2 e3 g2 g3 (put_okc hZ hal C.1.2.2.2.2 hc hj ha ht hvm hot e1 hv g1)) (by omega) (fun x hx => ?_) a4 a5 a6 a7 a8 a9
    rcases List.mem_append.mp hx with hx | hx
    · exact a3 x hx
    · rw [List.mem_singleton.mp hx]; exact ha
  rcases hfin with hfin | ⟨hi1, hfin, hdecl⟩
  · rw [if_neg (by rw [hfin]; decide)] at hlay
    have h6 := u_store hfc hkC hkind hlay hi (cYok c hc j hj) hn hf
    exact W.putK C.1.1 C.1.2.1 (f := fd) ⟨C.1.2.2.2.1, C.1.2.2.2.2 _ hl, ⟨_, _, _, hi⟩, hst2⟩ (by rw [hcls]; exact h6) hcell hvm hlt rfl rfl hd fin
  · rw [if_pos hfin] at hlay
    have hcf : m.cls = cf := by
      obtain ⟨_, _, c', _, _, _, -, -, hf', -, -, -, hown2, -⟩ := Cond.laysFinal_spec hlay
      have e1 : c' = cf := by have := hi.symm.trans hf'; simp at this; exact this.1.symm
      rw [hdecl] at hown2
      rw [← e1]; exact Option.some.inj (C.1.2.2.2.1.symm.trans hown2)
    have h6 := u_fits hfc hkC hkind (Or.inr hlay) hi (cYok c hc j hj) hn hf
    exact W.putFinK C.1.1 C.1.2.1 C.1.2.2.2.1 (C.1.2.2.2.2 _ hl) hi hst2 hcf (C.2.2.2.1.trans hi1) (by rw [hcls]; exact h6) hcell hvm hlt rfl rfl hd fin
theorem at_puti {c j i a : Nat} {x : Int32} (hZ : Bz G) (hρ : Good G ρ) (hc : c < 23) (hj : j < cC c) (hy : (cY c j).isReference = false) (hl : Cond.fieldLink M.1.cls i (cT c j).1 (cT c j).2.1 (cT c j).2.2.1 ∈ lw_all) (hd : decode M.2.1 pc = .ok (.putfield i, 3)) (hfin : (cT c j).2.2.2 = false ∨ (M.1.name = "<init>" ∧ (cT c j).2.2.2 = true ∧ (cT c j).1 = M.1.cls)) (hn : narrow (cY c j) (.int x) = .int x) (hf : fits (cY c j) (.int x) = true) (ht : tg h a = c + 1) (ha : zs G ≤ a) (kk : At G ρ M f K X (pc + 3) lo st (si h a j x) k n) : At G ρ M f K X pc lo (.int x :: .ref a :: st) h k n :=
  at_put (h' := si h a j x) hZ hρ hc hj hl hd hfin hn hf ht ha rfl rfl (fun q k hq => ⟨by rw [iv_si, if_neg (fun z => hq z.1)], rfl⟩) (fv_si hy) kk
theorem narrow_rf {ty : FieldType} (r : Option Nat) : narrow ty (va_rf r) = va_rf r := by cases ty <;> cases r <;> rfl
theorem fits_rf {ty : FieldType} (hy : ty.isReference = true) (r : Option Nat) : fits ty (va_rf r) = true := by
  cases ty <;> cases r <;> first | rfl | (simp [FieldType.isReference] at hy)
theorem at_putr {c j i a : Nat} {x : Option Nat} (hZ : Bz G) (hρ : Good G ρ) (hc : c < 23) (hj : j < cC c) (hy : (cY c j).isReference = true) (hl : Cond.fieldLink M.1.cls i (cT c j).1 (cT c j).2.1 (cT c j).2.2.1 ∈ lw_all) (hd : decode M.2.1 pc = .ok (.putfield i, 3)) (hfin : (cT c j).2.2.2 = false ∨ (M.1.name = "<init>" ∧ (cT c j).2.2.2 = true ∧ (cT c j).1 = M.1.cls)) (ht : tg h a = c + 1) (ha : zs G ≤ a) (kk : At G ρ M f K X (pc + 3) lo st (sr h a j x) k n) : At G ρ M f K X pc lo (va_rf x :: .ref a :: st) h k n :=
  at_put (h' := sr h a j x) hZ hρ hc hj hl hd hfin (narrow_rf x) (fits_rf hy x) ht ha rfl rfl (fun q k hq => ⟨rfl, by rw [rv_sr, if_neg (fun z => hq z.1)]⟩) (fv_sr hy) kk
/-! arrays -/
theorem arr_of {i a : Nat} {H : Heap} {s : State} (hZ : Bz G) (hρ : Good G ρ) (hr : Rl G ρ h H) (hW : G.2.1.WarmedH s.vm) (hi : i < 8) (ht : tg h a = 100 + i) : ∃ cell : Cell, H[a]? = some cell ∧ s.isArrayOf cell (aY i) ∧ cell.vm ≠ .unknown ∧ cell.slots.size = ln h a ∧ (∀ j, j < ln h a → cell.slots[j]? = some (av h i a j)) ∧ cell.vm.isStatics = false ∧ (zs G ≤ a → cell.vm = .none) ∧ cell.cls = G.2.2.2 i := by
  obtain ⟨cell, hcell, hst, hkn, hvm, -, ho, -⟩ := (hρ h H hr.2.2).1 a (by rw [ht]; omega)
  obtain ⟨h1, h2, h3⟩ := ho i ht
  exact ⟨cell, hcell, arr_at hZ hW.alike hi h1 hst, hkn, h2, h3, hst, hvm, h1⟩
theorem at_iald {a : Nat} {j : Int32} (hZ : Bz G) (hρ : Good G ρ) (ht : tg h a = 100) (hin : vp_in j (ln h a)) (hd : decode M.2.1 pc = .ok (.iaload, 1)) (kk : At G ρ M f K X (pc + 1) lo (.int (iv h a j.toNatClampNeg) :: st) h k n) : At G ρ M f K X pc lo (.int j :: .ref a :: st) h k n := by
  intro p e R s m args below meth c0 H locs ls cells slots mc ms C a1 a2 a3 a4 a5 a6 a7 a8 a9
  obtain ⟨cell, hcell, harr, hkn, hsz, hsl, -⟩ := arr_of hZ hρ a1 C.2.2.2.2.1 (by omega : 0 < 8) ht
  have hlt : j.toNatClampNeg < ln h a := Nat.not_le.mp fun q => hin (Or.inr q)
  exact W.iald C.1.1 C.1.2.1 hcell harr hkn (by rw [hsz]; exact hin) (v := .int (iv h a j.toNatClampNeg)) (by rw [hsl _ hlt]; rfl) rfl rfl hd (kk p e R s m args below meth c0 H locs ls cells slots mc ms C a1 a2 a3 a4 a5 a6 a7 a8 a9)
theorem at_zald {a : Nat} {j : Int32} (hZ : Bz G) (hρ : Good G ρ) (ht : tg h a = 101) (hin : vp_in j (ln h a)) (hd : decode M.2.1 pc = .ok (.baload, 1)) (kk : At G ρ M f K X (pc + 1) lo (.int (iv h a j.toNatClampNeg) :: st) h k n) : At G ρ M f K X pc lo (.int j :: .ref a :: st) h k n := by
  intro p e R s m args below meth c0 H locs ls cells slots mc ms C a1 a2 a3 a4 a5 a6 a7 a8 a9
  obtain ⟨cell, hcell, harr, hkn, hsz, hsl, -⟩ := arr_of hZ hρ a1 C.2.2.2.2.1 (by omega : 1 < 8) ht
  have hlt : j.toNatClampNeg < ln h a := Nat.not_le.mp fun q => hin (Or.inr q)
  exact W.zald C.1.1 C.1.2.1 hcell harr hkn (by rw [hsz]; exact hin) (v := .int (iv h a j.toNatClampNeg)) (by rw [hsl _ hlt]; rfl) rfl rfl hd (kk p e R s m args below meth c0 H locs ls cells slots mc ms C a1 a2 a3 a4 a5 a6 a7 a8 a9)
theorem at_lald {a : Nat} {j : Int32} (hZ : Bz G) (hρ : Good G ρ) (ht : tg h a = 102) (hin : vp_in j (ln h a)) (hd : decode M.2.1 pc = .ok (.laload, 1)) (kk : At G ρ M f K X (pc + 1) lo (.long (iv h a j.toNatClampNeg).toInt64 :: st) h k n) : At G ρ M f K X pc lo (.int j :: .ref a :: st) h k n := by
  intro p e R s m args below meth c0 H locs ls cells slots mc ms C a1 a2 a3 a4 a5 a6 a7 a8 a9
  obtain ⟨cell, hcell, harr, hkn, hsz, hsl, -⟩ := arr_of hZ hρ a1 C.2.2.2.2.1 (by omega : 2 < 8) ht
  have hlt : j.toNatClampNeg < ln h a := Nat.not_le.mp fun q => hin (Or.inr q)
  exact W.lald C.1.1 C.1.2.1 hcell harr hkn (by rw [hsz]; exact hin) (v := .long (iv h a j.toNatClampNeg).toInt64) (by rw [hsl _ hlt]; rfl) rfl rfl hd (kk p e R s m args below meth c0 H locs ls cells slots mc ms C a1 a2 a3 a4 a5 a6 a7 a8 a9)
theorem aY_ref {i : Nat} (h1 : 3 ≤ i) : (aY i).isReference = true := by
  match i, h1 with
  | 3, _ => rfl
  | 4, _ => rfl
  | 5, _ => rfl
  | 6, _ => rfl
  | n + 7, _ => rfl
theorem av_ref {i a j : Nat} (h1 : 3 ≤ i) : av h i a j = va_rf (rv h a j) := by
  unfold av
  rw [if_neg (by omega), if_neg (by omega)]
theorem at_aald {a i : Nat} {j : Int32} (hZ : Bz G) (hρ : Good G ρ) (h3 : 3 ≤ i) (hi : i < 8) (ht : tg h a = 100 + i) (hin : vp_in j (ln h a)) (hd : decode M.2.1 pc = .ok (.aaload, 1)) (kk : At G ρ M f K X (pc + 1) lo (va_rf (rv h a j.toNatClampNeg) :: st) h k n) : At G ρ M f K X pc lo (.int j :: .ref a :: st) h k n := by
  intro p e R s m args below meth c0 H locs ls cells slots mc ms C a1 a2 a3 a4 a5 a6 a7 a8 a9
  obtain ⟨cell, hcell, harr, hkn, hsz, hsl, -⟩ := arr_of hZ hρ a1 C.2.2.2.2.1 hi ht
  have hlt : j.toNatClampNeg < ln h a := Nat.not_le.mp fun q => hin (Or.inr q)
  exact W.aald C.1.1 C.1.2.1 hcell harr (aY_ref h3) hkn (by rw [hsz]; exact hin) (v := va_rf (rv h a j.toNatClampNeg)) (by rw [hsl _ hlt, av_ref h3]) rfl rfl hd (kk p e R s m args below meth c0 H locs ls cells slots mc ms C a1 a2 a3 a4 a5 a6 a7 a8 a9)
theorem ast_okc {i a j : Nat} {h h' : Hp} {H' : Heap} {cell : Cell} {v : Value} (ha : zs G ≤ a) (ht : tg h a = 100 + i) (hvm : cell.vm = .none) (hcls : cell.cls = G.2.2.2 i) (hsz : cell.slots.size = ln h a) (hsl : ∀ j, j < ln h a → cell.slots[j]? = some (av h i a j)) (hj : j < ln h a) (e1 : h'.1 = h.1) (e2 : h'.2.1 = h.2.1) (hv : ∀ q, av h' i a q = if q = j then v else av h i a q) (hH : H'[a]? = some (cell.setSlot j v)) : okc G h' a H' := by
  have ht' : tg h' a = 100 + i := by unfold tg; rw [e1]; exact ht
  have hl' : ln h' a = ln h a := by unfold ln; rw [e2]
  refine ⟨_, hH, (vmN hvm).1, (vmN hvm).2, fun _ => hvm, fun c hc hlt => by omega, fun i' hi' => ?_, fun h9 => by omega⟩
  have : i' = i := by omega
  subst this
  refine ⟨hcls, by rw [k2_slotsz, hl']; exact hsz, fun q hq => ?_⟩
  rw [hl'] at hq
  rw [hv q]
  by_cases e : q = j
  · subst e
    rw [if_pos rfl]
    simp [Cell.setSlot, hsz, hj]
  · rw [if_neg e, ← hsl q hq]
    simp [Cell.setSlot, Array.getElem?_setIfInBounds, Ne.symm e]
theorem at_ast_core {a i j : Nat} {v : Value} {h' : Hp} {pc' : Nat} {st0 : List Value} (hρ : Good G ρ) (ha : zs G ≤ a) (ht : tg h a = 100 + i) (hj : j < ln h a) (e1 : h'.1 = h.1) (e2 : h'.2.1 = h.2.1) (e3 : ∀ q k, q ≠ a → iv h' q k = iv h q k ∧ rv h' q k = rv h q k) (hv : ∀ q, av h' i a q = if q = j then v else av h i a q)
    (hs : ∀ (p : Program) (e : Env) (R : Room) (s : State) (m : MethodId) (args : Array Value) (below : List Frame) (meth : Method) (c : Code) (H : Heap) (locs : List Loc) (ls : Array Slot) (cells slots : Nat) (Q : State → Prop), Cx G M f p R s m args meth c → Rl G ρ h H → ∃ cell : Cell, (cell.vm = .none ∧ cell.cls = G.2.2.2 i ∧ cell.slots.size = ln h a ∧ (∀ j, j < ln h a → cell.slots[j]? = some (av h i a j))) ∧
      ((∀ H' : Heap, H'[a]? = some (cell.setSlot j v) → H'.size = H.size → (∀ q, q ≠ a → H'[q]? = H[q]?) → W p G.1 e R s m args below meth c H' (locs ++ [⟨a, j⟩]) cells slots Q (F0 m pc' ls st)) → W p G.1 e R s m args below meth c H locs cells slots Q (F0 m pc ls st0)))
    (kk : At G ρ M f K X pc' lo st h' k n) : At G ρ M f K X pc lo st0 h k n := by
  intro p e R s m args below meth c0 H locs ls cells slots mc ms C a1 a2 a3 a4 a5 a6 a7 a8 a9
  obtain ⟨cell, ⟨g1, g2, g3, g4⟩, g5⟩ := hs p e R s m args below meth c0 H locs ls cells slots (vx_MQ below (Qn G ρ M K) (Qx G ρ X) args s mc ms (fz G)) C a1
  refine g5 fun H' q1 q2 q3 => ?_
  refine kk p e R s m args below meth c0 H' _ ls cells slots mc ms C (put_Rl hρ a1 ha (by rw [ht]; omega) (by rw [ht]; omega) e1 e2 e3 q2 q3 (ast_okc ha ht g1 g2 g3 g4 hj e1 e2 hv q1)) (by omega) (fun x hx => ?_) a4 a5 a6 a7 a8 a9
  rcases List.mem_append.mp hx with hx | hx
  · exact a3 x hx
  · rw [List.mem_singleton.mp hx]; exact ha
theorem av_si {i a j : Nat} {x : Int32} (hi : i < 2) : ∀ q, av (si h a j x) i a q = if q = j then Value.int x else av h i a q := by
  intro q
  unfold av
  rw [if_pos hi, if_pos hi, iv_si]
  by_cases e : q = j
  · rw [if_pos ⟨rfl, e⟩, if_pos e]
  · rw [if_neg (fun z => e z.2), if_neg e]
theorem av_2 {a q : Nat} {h : Hp} : av h 2 a q = Value.long (iv h a q).toInt64 := rfl
theorem av_si2 {a j : Nat} {x : Int32} : ∀ q, av (si h a j x) 2 a q = if q = j then Value.long x.toInt64 else av h 2 a q := by
  intro q
  rw [av_2, av_2, iv_si]
  by_cases e : q = j
  · rw [if_pos ⟨rfl, e⟩, if_pos e]
  · rw [if_neg (fun z => e z.2), if_neg e]
theorem av_sr {i a j : Nat} {x : Option Nat} (hi : 3 ≤ i) : ∀ q, av (sr h a j x) i a q = if q = j then va_rf x else av h i a q := by
  intro q
  rw [av_ref hi, av_ref hi, rv_sr]
  by_cases e : q = j
  · rw [if_pos ⟨rfl, e⟩, if_pos e]
  · rw [if_neg (fun z => e z.2), if_neg e]
theorem in_lt {j : Int32} {N : Nat} (hin : vp_in j N) : j.toNatClampNeg < N := Nat.not_le.mp fun q => hin (Or.inr q)
theorem at_iast {a : Nat} {j x : Int32} (hZ : Bz G) (hρ : Good G ρ) (ha : zs G ≤ a) (ht : tg h a = 100) (hin : vp_in j (ln h a)) (hd : decode M.2.1 pc = .ok (.iastore, 1)) (kk : At G ρ M f K X (pc + 1) lo st (si h a j.toNatClampNeg x) k n) : At G ρ M f K X pc lo (.int x :: .int j :: .ref a :: st) h k n := by
  refine at_ast_core (i := 0) (j := j.toNatClampNeg) (v := .int x) (h' := si h a j.toNatClampNeg x) hρ ha ht (in_lt hin) rfl rfl (fun q k hq => ⟨by rw [iv_si, if_neg (fun z => hq z.1)], rfl⟩) (av_si (by omega)) (fun p e R s m args below meth c H locs ls cells slots Q C a1 => ?_) kk
  obtain ⟨cell, hcell, harr, hkn, hsz, hsl, -, hvm, hcls⟩ := arr_of hZ hρ a1 C.2.2.2.2.1 (by omega : 0 < 8) ht
  exact ⟨cell, ⟨hvm ha, hcls, hsz, hsl⟩, fun q => W.iast C.1.1 C.1.2.1 hcell harr hkn (by rw [hsz]; exact hin) rfl rfl hd q⟩
theorem narrow_z {x : Int32} (hx : x = 0 ∨ x = 1) : narrow .boolean (.int x) = .int x := by rcases hx with rfl | rfl <;> rfl
theorem fits_z {x : Int32} (hx : x = 0 ∨ x = 1) : fits .boolean (.int x) = true := by rcases hx with rfl | rfl <;> rfl
theorem at_zast {a : Nat} {j x : Int32} (hZ : Bz G) (hρ : Good G ρ) (ha : zs G ≤ a) (ht : tg h a = 101) (hin : vp_in j (ln h a)) (hx : x = 0 ∨ x = 1) (hd : decode M.2.1 pc = .ok (.bastore, 1)) (kk : At G ρ M f K X (pc + 1) lo st (si h a j.toNatClampNeg x) k n) : At G ρ M f K X pc lo (.int x :: .int j :: .ref a :: st) h k n := by
  refine at_ast_core (i := 1) (j := j.toNatClampNeg) (v := .int x) (h' := si h a j.toNatClampNeg x) hρ ha ht (in_lt hin) rfl rfl (fun q k hq => ⟨by rw [iv_si, if_neg (fun z => hq z.1)], rfl⟩) (av_si (by omega)) (fun p e R s m args below meth c H locs ls cells slots Q C a1 => ?_) kk
  obtain ⟨cell, hcell, harr, hkn, hsz, hsl, -, hvm, hcls⟩ := arr_of hZ hρ a1 C.2.2.2.2.1 (by omega : 1 < 8) ht
  exact ⟨cell, ⟨hvm ha, hcls, hsz, hsl⟩, fun q => W.zast C.1.1 C.1.2.1 hcell harr hkn (by rw [hsz]; exact hin) rfl rfl hd (by rw [narrow_z hx]; exact q)⟩
theorem at_last {a : Nat} {j x : Int32} (hZ : Bz G) (hρ : Good G ρ) (ha : zs G ≤ a) (ht : tg h a = 102) (hin : vp_in j (ln h a)) (hd : decode M.2.1 pc = .ok (.lastore, 1)) (kk : At G ρ M f K X (pc + 1) lo st (si h a j.toNatClampNeg x) k n) : At G ρ M f K X pc lo (.long x.toInt64 :: .int j :: .ref a :: st) h k n := by
  refine at_ast_core (i := 2) (j := j.toNatClampNeg) (v := .long x.toInt64) (h' := si h a j.toNatClampNeg x) hρ ha ht (in_lt hin) rfl rfl (fun q k hq => ⟨by rw [iv_si, if_neg (fun z => hq z.1)], rfl⟩) av_si2 (fun p e R s m args below meth c H locs ls cells slots Q C a1 => ?_) kk
  obtain ⟨cell, hcell, harr, hkn, hsz, hsl, -, hvm, hcls⟩ := arr_of hZ hρ a1 C.2.2.2.2.1 (by omega : 2 < 8) ht
  exact ⟨cell, ⟨hvm ha, hcls, hsz, hsl⟩, fun q => W.last C.1.1 C.1.2.1 hcell harr hkn (by rw [hsz]; exact hin) rfl rfl hd q⟩
theorem at_alen {a i : Nat} (hZ : Bz G) (hρ : Good G ρ) (hi : i < 8) (ht : tg h a = 100 + i) (hd : decode M.2.1 pc = .ok (.arraylength, 1)) (kk : At G ρ M f K X (pc + 1) lo (.int (nI (ln h a)) :: st) h k n) : At G ρ M f K X pc lo (.ref a :: st) h k n := by
  intro p e R s m args below meth c0 H locs ls cells slots mc ms C a1 a2 a3 a4 a5 a6 a7 a8 a9
  obtain ⟨cell, hcell, harr, hkn, hsz, hsl, -⟩ := arr_of hZ hρ a1 C.2.2.2.2.1 hi ht
  exact W.alen C.1.1 C.1.2.1 hcell harr (n := nI (ln h a)) (by rw [hsz]; rfl) rfl rfl hd (kk p e R s m args below meth c0 H locs ls cells slots mc ms C a1 a2 a3 a4 a5 a6 a7 a8 a9)
end HeapRows
