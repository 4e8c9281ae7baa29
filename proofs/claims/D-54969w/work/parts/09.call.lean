/-! NEW CELLS, CALLS, ENDS for 'At' -/
set_option maxRecDepth 100000
section NewRows
variable {G : Gv} {ρ : Hp → Heap → Prop} {M : Md} {f : Nat} {K : Value → Hp → Prop} {X : String → Hp → Prop} {pc : Nat} {lo : List (Option Value)} {st : List Value} {h : Hp} {k n : Nat}
theorem nw_off {h : Hp} {a t N : Nat} : ∀ q, q ≠ a → tg (nw h a t N) q = tg h q ∧ ln (nw h a t N) q = ln h q ∧ ∀ k, iv (nw h a t N) q k = iv h q k ∧ rv (nw h a t N) q k = rv h q k := by
  intro q hq
  exact ⟨by rw [tg_nw, if_neg hq], by rw [ln_nw, if_neg hq], fun k => ⟨by rw [iv_nw, if_neg hq], by rw [rv_nw, if_neg hq]⟩⟩
theorem blank_fv : ∀ c, c < 23 → ∀ j, j < cC c → (defaultValue (cY c j)) = if (cY c j).isReference = true then Value.null else .int 0 := by decide +kernel
theorem at_new {c i : Nat} (hZ : Bz G) (hρ : Good G ρ) (hc : c < 23) (hl : Cond.classLink M.1.cls i (cN c) ∈ lw_all) (hI : Cond.instantiable (cN c) (cC c) ∈ lw_all) (hini : Cond.initialized (cN c) ∈ lw_all) (hd : decode M.2.1 pc = .ok (.new i, 3)) (h1 : 1 ≤ k) (h2 : cC c ≤ n)
    (kk : ∀ a, tg h a = 0 → zs G ≤ a → At G ρ M f K X (pc + 3) lo (.ref a :: st) (nw h a (c + 1) 0) (k - 1) (n - cC c)) : At G ρ M f K X pc lo st h k n := by
  intro p e R s m args below meth c0 H locs ls cells slots mc ms C a1 a2 a3 a4 a5 a6 a7 a8 a9
  have hKn := u_Kn_moved C.2.2.2.2.1.alike (hZ.2.1 c hc)
  refine W.newcK C.1.1 C.1.2.1 C.1.2.2.2.1 (C.1.2.2.2.2 _ hl) (C.1.2.2.2.2 _ hI) (C.1.2.2.2.2 _ hini) rfl hd (by omega) (by omega) hKn.2.1 rfl fun H' kC hkC e1 z1 o1 => ?_
  obtain ⟨cell, b1, b2, b3, b4⟩ := u_born (cY c) C.1.2.2.2.2 (cI c hc) hKn hkC e1 (cYok c hc)
  refine kk H.size (tg_fresh hρ a1.2.2) a1.1 p e R s m args below meth c0 H' locs ls (cells + 1) (slots + cC c) mc ms C (new_Rl hρ a1 z1 o1 nw_off (by rw [tg_nw, if_pos rfl]; omega) (by rw [tg_nw, if_pos rfl]; omega) ⟨cell, b1, (vmN b3).1, (vmN b3).2, fun _ => b3, fun c' hc' hlt => ?_, fun i' hi' => ?_, fun h9 => ?_⟩) (by omega) a3 a4 a5 (by omega) (by omega) a8 a9
  · rw [tg_nw, if_pos rfl] at hc'
    have : c' = c := by omega
    subst this
    refine ⟨b2, fun j hj => ?_⟩
    rw [b4 j hj]
    show some (defaultValue (cY c' j)) = _
    rw [blank_fv c' hc j hj]
    unfold fv
    rw [rv_nw, iv_nw, if_pos rfl, if_pos rfl]
    rfl
  · rw [tg_nw, if_pos rfl] at hi'
    omega
  · rw [tg_nw, if_pos rfl] at h9
    omega
theorem arr_born {H : Heap} {a i N : Nat} {cell : Cell} (hi : i < 8) (hc : cell.cls = G.2.2.2 i) (hv : cell.vm = .none) (hs : cell.slots.size = N) (hz : ∀ j, j < N → cell.slots[j]? = some (defaultValue (aY i))) (hH : H[a]? = some cell) : okc G (nw h a (100 + i) N) a H := by
  refine ⟨cell, hH, (vmN hv).1, (vmN hv).2, fun _ => hv, fun c' hc' hlt => ?_, fun i' hi' => ?_, fun h9 => ?_⟩
  · rw [tg_nw, if_pos rfl] at hc'
    omega
  · rw [tg_nw, if_pos rfl] at hi'
    have : i' = i := by omega
    subst this
    rw [ln_nw, if_pos rfl]
    refine ⟨hc, hs, fun j hj => ?_⟩
    rw [hz j hj]
    unfold av
    rw [rv_nw, iv_nw, if_pos rfl, if_pos rfl]
    match i', hi with
    | 0, _ => rfl
    | 1, _ => rfl
    | 2, _ => rfl
    | 3, _ => rfl
    | 4, _ => rfl
    | 5, _ => rfl
    | 6, _ => rfl
    | 7, _ => rfl
  · rw [tg_nw, if_pos rfl] at h9
    omega
theorem at_newarr {i : Nat} {x : Int32} {N : Nat} {atype : ArrayType} (hZ : Bz G) (hρ : Good G ρ) (hi : i < 3) (hty : newarray.typeOf atype = aY i) (hA : Cond.arrayClass (aY i) ∈ lw_all) (hx : ¬ x < 0) (hN : x.toNatClampNeg = N) (hb : N ≤ 1000000) (hd : decode M.2.1 pc = .ok (.newarray atype, 2)) (h1 : 1 ≤ k) (h2 : N ≤ n)
    (kk : ∀ a, tg h a = 0 → zs G ≤ a → At G ρ M f K X (pc + 2) lo (.ref a :: st) (nw h a (100 + i) N) (k - 1) (n - N)) : At G ρ M f K X pc lo (.int x :: st) h k n := by
  intro p e R s m args below meth c0 H locs ls cells slots mc ms C a1 a2 a3 a4 a5 a6 a7 a8 a9
  have hcb : componentBytes (aY i) ≤ 8 := by
    match i, hi with
    | 0, _ => decide
    | 1, _ => decide
    | 2, _ => decide
  refine va_newaK C.1.1 C.1.2.1 (by rw [hty]; exact C.1.2.2.2.2 _ hA) rfl hd rfl hx hN (by rw [hty]; have := Nat.mul_le_mul hb hcb; omega) (by omega) (by omega) rfl fun H' cA e1 z1 o1 _ hnm => ?_
  rw [hty] at e1 hnm
  obtain ⟨kA, comp, -, -, hf, -⟩ := hZ.2.2.1 i (by omega)
  have hcA : cA = G.2.2.2 i := by
    rw [C.2.2.2.2.1.alike.findClass] at hnm
    exact Option.some.inj (hnm.symm.trans hf)
  exact kk H.size (tg_fresh hρ a1.2.2) a1.1 p e R s m args below meth c0 H' locs ls (cells + 1) (slots + N) mc ms C (new_Rl hρ a1 z1 o1 nw_off (by rw [tg_nw, if_pos rfl]; omega) (by rw [tg_nw, if_pos rfl]; omega) (arr_born (by omega) hcA rfl (arrV_size _ _ _) (fun j hj => arrV_read _ _ hj) e1)) (by omega) a3 a4 a5 (by omega) (by omega) a8 a9
theorem at_anew {i j : Nat} {x : Int32} {N : Nat} {E : String} (hZ : Bz G) (hρ : Good G ρ) (hi : i < 8) (hty : aY i = .object E) (hA : Cond.arrayOver (.object E) ∈ lw_tbl) (hl : Cond.classLink M.1.cls j E ∈ lw_all) (hx : ¬ x < 0) (hN : x.toNatClampNeg = N) (hb : N ≤ 1000000) (hd : decode M.2.1 pc = .ok (.anewarray j, 3)) (h1 : 1 ≤ k) (h2 : N ≤ n)
    (kk : ∀ a, tg h a = 0 → zs G ≤ a → At G ρ M f K X (pc + 3) lo (.ref a :: st) (nw h a (100 + i) N) (k - 1) (n - N)) : At G ρ M f K X pc lo (.int x :: st) h k n := by
  intro p e R s m args below meth c0 H locs ls cells slots mc ms C a1 a2 a3 a4 a5 a6 a7 a8 a9
  subst hN
  obtain ⟨az, haz⟩ := hZ.2.2.2
  have ho : (Cond.arrayOver (.object E)).before args s = true := by
    exact va_AO.use (va_AO.moved C.2.2.2.2.1.alike (va_AO.of (haz _ hA)))
  refine W.anew C.1.1 C.1.2.1 C.1.2.2.2.1 (C.1.2.2.2.2 _ hl) ho rfl hd rfl hx (by omega) (by omega) (by omega) fun cA kA comp q1 q2 q3 q4 => ?_
  obtain ⟨kA, comp, -, -, hf, -⟩ := hZ.2.2.1 i (by omega)
  rw [hty] at hf
  have hcA : cA = G.2.2.2 i := by
    rw [C.2.2.2.2.1.alike.findClass] at q1
    exact Option.some.inj (q1.symm.trans hf)
  refine kk H.size (tg_fresh hρ a1.2.2) a1.1 p e R s m args below meth c0 _ locs ls (cells + 1) (slots + x.toNatClampNeg) mc ms C (new_Rl hρ a1 (by simp) (fun q hq => by rw [Array.getElem?_push, if_neg (Nat.ne_of_lt hq)]) nw_off (by rw [tg_nw, if_pos rfl]; omega) (by rw [tg_nw, if_pos rfl]; omega) (arr_born (cell := { cls := cA, slots := Array.replicate x.toNatClampNeg .null, vm := .none }) (by omega) hcA rfl (by simp) (fun j hj => by rw [hty]; simp [hj, defaultValue]) (by simp))) (by simp; omega) a3 a4 a5 (by omega) (by omega) a8 a9
end NewRows
/-! calls -/
def cwM (M : Md) : Cond := match M.2.2.2.2 with
  | none => Cond.code M.1 M.2.1 M.2.2.1 M.2.2.2.1
  | some hh => Cond.codeWith M.1 M.2.1 M.2.2.1 M.2.2.2.1 hh
/-- what a method is known by to its callers: its code, its class, how many arguments -/
def KM (M : Md) (na : Nat) : Prop := cwM M ∈ lw_all ∧ Cond.initialized M.1.cls ∈ lw_all ∧ (M.1.cls ≠ "java/lang/invoke/MethodHandle" ∧ M.1.cls ≠ "java/lang/invoke/VarHandle" ∧ (parseMethodDescriptor M.1.desc).map (fun d => d.parameters.length) = some na) ∧ M.2.2.1 ≤ 20
/-- an instance method, called on its own class -/
def KV (M : Md) (na : Nat) : Prop := KM M na ∧ Cond.instanceMethod M.1 ∈ lw_all ∧ Cond.selects M.1.cls M.1 M.1 ∈ lw_all
def KS (M : Md) (na : Nat) : Prop := KM M na ∧ Cond.static M.1 ∈ lw_all
def KI (M : Md) (na : Nat) : Prop := KM M na ∧ Cond.instanceMethod M.1 ∈ lw_all ∧ M.1.name = "<init>" ∧ M.2.2.2.1 = none ∧ M.2.2.2.2 = none
section Calls
variable {G : Gv} {ρ : Hp → Heap → Prop} {M : Md} {f : Nat} {K : Value → Hp → Prop} {X : String → Hp → Prop} {pc : Nat} {lo : List (Option Value)} {st : List Value} {h : Hp} {k n : Nat}
variable {N : Md} {f' mc' ms' na i : Nat} {As : List Value} {K' : Value → Hp → Prop} {X' : String → Hp → Prop}
theorem ws_good (hM : cwM N ∈ lw_all) : GoodIn lw_all (wsM N) := by
  obtain ⟨y, cc, nL, ret, hh⟩ := N
  cases hh with
  | none => exact lw_meth hM
  | some hh => exact lw_methW hM
theorem blindP {as : List Value} : FrameBlind (Pcl G ρ as h) := fun _ _ _ _ q => q
theorem preS {p : Program} {R : Room} {s : State} {m : MethodId} {args : Array Value} {meth : Method} {c : Code} {H : Heap} {as : List Value} (C : Cx G M f p R s m args meth c) (hr : Rl G ρ h H) : PreS s H (Pcl G ρ as h) as :=
  ⟨blindP, fun U hU hW => ⟨rfl, State.WarmedH.trans C.2.2.2.2.1 hW, by rw [hU]; exact hr⟩⟩
theorem preV {p : Program} {R : Room} {s : State} {m : MethodId} {args : Array Value} {meth : Method} {c : Code} {H : Heap} {b : Nat} {B : String} (C : Cx G M f p R s m args meth c) (hr : Rl G ρ h H) (hb : ∃ cellB : Cell, H[b]? = some cellB ∧ cellB.vm.isStatics = false ∧ s.vm.findClass B = some cellB.cls) : PreV s H B b (Pcl G ρ (.ref b :: As) h) As :=
  ⟨blindP, hb, fun U hU hW => ⟨rfl, State.WarmedH.trans C.2.2.2.2.1 hW, by rw [hU]; exact hr⟩⟩
/-- the receiver's class, by its tag -/
theorem at_recv {p : Program} {R : Room} {s : State} {m : MethodId} {args : Array Value} {meth : Method} {c : Code} {H : Heap} {b cb : Nat} (hZ : Bz G) (hρ : Good G ρ) (C : Cx G M f p R s m args meth c) (hr : Rl G ρ h H) (hcb : cb < 23) (ht : tg h b = cb + 1 ∨ (cb = 21 ∧ tg h b = 99)) : ∃ cellB : Cell, H[b]? = some cellB ∧ cellB.vm.isStatics = false ∧ s.vm.findClass (cN cb) = some cellB.cls := by
  obtain ⟨cell, hcell, hst, hkn, hvm, ho, -, h9⟩ := (hρ h H hr.2.2).1 b (by omega)
  have hf := (u_Kn_moved C.2.2.2.2.1.alike (hZ.2.1 cb hcb)).2.1
  refine ⟨cell, hcell, hst, ?_⟩
  rw [hf]
  rcases ht with ht | ⟨rfl, ht⟩
  · rw [(ho cb ht hcb).1]
  · rw [h9 ht]
def svM (N : Md) (v : Value) (st : List Value) : List Value := if N.2.2.2.1.isSome = true then v :: st else st
theorem W_ofRun {p : Program} {e : Env} {R : Room} {s : State} {m : MethodId} {args : Array Value} {below : List Frame} {meth : Method} {c : Code} {H : Heap} {locs : List Loc} {ls : Array Slot} {cells slots : Nat} {Q : State → Prop} {a : Array Value} {st0 : List Value}
    (hr : vx_Run p G.1 e R s m args below meth c H locs cells slots mc' ms' (F0 m pc ls st0) st (Qn G ρ N K' a) (Qx G ρ X') (fz G)) (a3 : ∀ x ∈ locs, zs G ≤ x.base)
    (k1 : ∀ (v : Value) (h' : Hp) (H' : Heap) (locs' : List Loc), Rl G ρ h' H' → K' v h' → (∀ x ∈ locs', zs G ≤ x.base) → s.heap.size ≤ H'.size → W p G.1 e R s m args below meth c H' locs' (cells + mc') (slots + ms') Q (F0 m (pc + 3) ls (svM N v st)))
    (k2 : ∀ (E : String) (h' : Hp) (H' : Heap) (locs' : List Loc) (q : Addr) (ce : Cell), Rl G ρ h' H' → X' E h' → (∀ x ∈ locs', zs G ≤ x.base) → s.heap.size ≤ H'.size → H'[q]? = some ce → ce.vm = .none → s.vm.findClass E = some ce.cls → vx_W p G.1 e R s m args below meth c H' locs' (cells + mc') (slots + ms') Q (F0 m pc ls st) q) :
    W p G.1 e R s m args below meth c H locs cells slots Q (F0 m pc ls st0) := by
  intro T hT Y
  have loc' : ∀ L : List Loc, (∀ q ∈ L, fz G q.base) → ∀ x ∈ locs ++ L, zs G ≤ x.base := fun L hL x hx => by
    rcases List.mem_append.mp hx with hx | hx
    · exact a3 x hx
    · exact hL x hx
  rcases hr T hT Y with ⟨v, st₀, t, T', L, h0, Y', hL, e1, e2, ⟨v', h', hv, hrl, hk⟩, go⟩ | ⟨q, st₀, t, T', L, E, ce, h0, Y', hL, e1, e2, ⟨h', hrl, hx⟩, hce, hcv, hcl, go⟩
  · have hv : v = if N.2.2.2.1.isSome = true then some v' else none := by cases hv; rfl
    obtain ⟨t2, b1, b2⟩ := k1 v' h' t.heap (locs ++ L) hrl hk (loc' L hL) (by rw [← e1]; exact (vx_frame Y'.same).1) T' e1 Y'
    refine ⟨t2, go t2 ?_, b2⟩
    have he : v.toList ++ st = svM N v' st := by
      rw [hv]
      unfold svM
      split <;> rfl
    rw [he]
    exact b1
  · obtain ⟨t2, b1, b2⟩ := k2 E h' t.heap (locs ++ L) q ce hrl hx (loc' L hL) (by rw [← e1]; exact (vx_frame Y'.same).1) hce hcv hcl T' e1 Y'
    exact ⟨t2, Steps.trans go b1, b2⟩
theorem rm_ok (hf : f' + 1 ≤ f) {R : Room} (hN : N.2.2.1 ≤ 20) (h1 : f ≤ R.frames) (h2 : 40 * f ≤ R.locals) : (rmM f' mc' ms').frames + 1 ≤ R.frames ∧ 8 + (N.2.2.1 + 11) + (rmM f' mc' ms').locals ≤ R.locals := by
  constructor
  · show f' + 1 ≤ R.frames
    omega
  · show 8 + (N.2.2.1 + 11) + 40 * f' ≤ R.locals
    omega
theorem at_call_core {st0 : List Value} (hmc : mc' ≤ k) (hms : ms' ≤ n)
    (hrun : ∀ (p : Program) (e : Env) (R : Room) (s : State) (m : MethodId) (args : Array Value) (below : List Frame) (meth : Method) (c : Code) (H : Heap) (locs : List Loc) (ls : Array Slot) (cells slots : Nat), Cx G M f p R s m args meth c → Rl G ρ h H → ls.size = M.2.2.1 → cells + mc' ≤ R.cells → slots + ms' ≤ R.slots → ∃ a, vx_Run p G.1 e R s m args below meth c H locs cells slots mc' ms' (F0 m pc ls st0) st (Qn G ρ N (fun v h' => At G ρ M f K X (pc + 3) lo (svM N v st) h' (k - mc') (n - ms')) a) (Qx G ρ (fun E h' => Ax G ρ M f K X pc lo E h' (k - mc') (n - ms'))) (fz G)) : At G ρ M f K X pc lo st0 h k n := by
  intro p e R s m args below meth c H locs ls cells slots mc ms C a1 a2 a3 a4 a5 a6 a7 a8 a9
  obtain ⟨a, hr⟩ := hrun p e R s m args below meth c H locs ls cells slots C a1 a4.1 (by omega) (by omega)
  refine W_ofRun hr a3 (fun v h' H' locs' r1 r2 r3 r4 => ?_) (fun E h' H' locs' q ce r1 r2 r3 r4 r5 r6 r7 => ?_)
  · exact r2 p e R s m args below meth c H' locs' ls (cells + mc') (slots + ms') mc ms C r1 r4 r3 a4 a5 (by omega) (by omega) a8 a9
  · exact r2 p e R s m args below meth c H' locs' ls (cells + mc') (slots + ms') mc ms q ce st C r1 r4 r3 a4 a5 (by omega) (by omega) a8 a9 r5 r6 r7
theorem at_callV {b cb : Nat} (hZ : Bz G) (hρ : Good G ρ) (hN : KV N na) (hcls : cN cb = N.1.cls) (hcb : cb < 23) (hl : Cond.methodLink M.1.cls i N.1 ∈ lw_all) (hd : decode M.2.1 pc = .ok (.invokevirtual i, 3)) (ht : tg h b = cb + 1 ∨ (cb = 21 ∧ tg h b = 99)) (hn : As.length = na) (hst : (st.map fun v => v.category).sum ≤ 8) {st0 : List Value} (he : As.reverse ++ .ref b :: st = st0) (hf : f' + 1 ≤ f) (hmc : mc' ≤ k) (hms : ms' ≤ n)
    (hC : Cl G ρ N f' mc' ms' (.ref b :: As) h (fun v h' => At G ρ M f K X (pc + 3) lo (svM N v st) h' (k - mc') (n - ms')) (fun E h' => Ax G ρ M f K X pc lo E h' (k - mc') (n - ms'))) : At G ρ M f K X pc lo st0 h k n := by
  subst he
  refine at_call_core (N := N) (st := st) hmc hms fun p e R s m args below meth c H locs ls cells slots C a1 hsz hc1 hs1 => ⟨(Value.ref b :: As).toArray, ?_⟩
  have hrecv := at_recv hZ hρ C a1 hcb ht
  rw [hcls] at hrecv
  have hrm := rm_ok (N := N) (mc' := mc') (ms' := ms') hf hN.1.2.2.2 C.2.2.2.2.2.1 C.2.2.2.2.2.2.1
  obtain ⟨⟨g1, g2, g3, g4⟩, g5, g6⟩ := hN
  obtain ⟨y, cc, nL, ret, hh⟩ := N
  cases hh with
  | none => exact vx_runV C.1 hC (cwV na C.1.2.2.2.2 (lw_V hl g5 g6 g2 g1) rfl rfl rfl ⟨rfl, g3⟩ hrm) (preV C a1 hrecv) rfl hn hsz rfl (lv_room hst) hd ⟨hc1, hs1⟩
  | some hh => exact vx_runVX C.1 hC (vx_cwVW na C.1.2.2.2.2 (lw_VW hl g5 g6 g2 g1) rfl rfl rfl ⟨rfl, g3⟩ hrm) (preV C a1 hrecv) rfl hn hsz rfl (lv_room hst) hd ⟨hc1, hs1⟩
theorem at_callS (hN : KS N na) (hl : Cond.methodLink M.1.cls i N.1 ∈ lw_all) (hd : decode M.2.1 pc = .ok (.invokestatic i, 3)) (hn : As.length = na) (hst : (st.map fun v => v.category).sum ≤ 8) {st0 : List Value} (he : As.reverse ++ st = st0) (hf : f' + 1 ≤ f) (hmc : mc' ≤ k) (hms : ms' ≤ n)
    (hC : Cl G ρ N f' mc' ms' As h (fun v h' => At G ρ M f K X (pc + 3) lo (svM N v st) h' (k - mc') (n - ms')) (fun E h' => Ax G ρ M f K X pc lo E h' (k - mc') (n - ms'))) : At G ρ M f K X pc lo st0 h k n := by
  subst he
  refine at_call_core (N := N) (st := st) hmc hms fun p e R s m args below meth c H locs ls cells slots C a1 hsz hc1 hs1 => ⟨As.toArray, ?_⟩
  have hrm := rm_ok (N := N) (mc' := mc') (ms' := ms') hf hN.1.2.2.2 C.2.2.2.2.2.1 C.2.2.2.2.2.2.1
  obtain ⟨⟨g1, g2, g3, g4⟩, g5⟩ := hN
  obtain ⟨y, cc, nL, ret, hh⟩ := N
  cases hh with
  | none => exact vx_runS C.1 hC (va_cwS na C.1.2.2.2.2 (lw_S hl g5 g2 g1) rfl rfl rfl g3 hrm) (preS C a1) rfl hn hsz rfl (lv_room hst) hd ⟨hc1, hs1⟩
  | some hh => exact vx_runSX C.1 hC (vx_cwSW na C.1.2.2.2.2 (lw_SW hl g5 g2 g1) rfl rfl rfl g3 hrm) (preS C a1) rfl hn hsz rfl (lv_room hst) hd ⟨hc1, hs1⟩
theorem at_callI {b : Nat} (hN : KI N na) (hl : Cond.methodLink M.1.cls i N.1 ∈ lw_all) (hd : decode M.2.1 pc = .ok (.invokespecial i, 3)) (hn : As.length = na) (hst : (st.map fun v => v.category).sum ≤ 8) {st0 : List Value} (he : As.reverse ++ .ref b :: st = st0) (hf : f' + 1 ≤ f) (hmc : mc' ≤ k) (hms : ms' ≤ n)
    (hC : Cl G ρ N f' mc' ms' (.ref b :: As) h (fun v h' => At G ρ M f K X (pc + 3) lo (svM N v st) h' (k - mc') (n - ms')) (fun E h' => Ax G ρ M f K X pc lo E h' (k - mc') (n - ms'))) : At G ρ M f K X pc lo st0 h k n := by
  subst he
  refine at_call_core (N := N) (st := st) hmc hms fun p e R s m args below meth c H locs ls cells slots C a1 hsz hc1 hs1 => ⟨(Value.ref b :: As).toArray, ?_⟩
  have hrm := rm_ok (N := N) (mc' := mc') (ms' := ms') hf hN.1.2.2.2 C.2.2.2.2.2.1 C.2.2.2.2.2.2.1
  obtain ⟨⟨g1, g2, g3, g4⟩, g5, g6, g7, g8⟩ := hN
  obtain ⟨y, cc, nL, ret, hh⟩ := N
  simp only at g7 g8
  subst g7 g8
  exact vx_runI C.1 hC (cwI na C.1.2.2.2.2 (lw_meth g1) rfl rfl rfl (C.1.2.2.2.2 _ g2) (C.1.2.2.2.2 _ hl) (C.1.2.2.2.2 _ g5) g6 g3 hrm) (preS C a1) rfl hn hsz rfl (lv_room hst) hd ⟨hc1, hs1⟩
/-- private members of nest mates -/
theorem nest_word {p : Program} {R : Room} {s : State} {m : MethodId} {args : Array Value} {meth : Method} {c : Code} {host : String} (hZ : Bz G) (C : Cx G M f p R s m args meth c) (hl : Cond.methodLinkNest M.1.cls i N.1 host ∈ lw_tbl) : va_Nw (.methodLinkNest M.1.cls i N.1 host) s := by
  obtain ⟨az, haz⟩ := hZ.2.2.2
  exact va_Nw.warmM C.2.2.2.2.1 (va_Nw.of rfl (haz _ hl))
theorem at_callVN {b cb : Nat} {host : String} (hZ : Bz G) (hρ : Good G ρ) (hN : KV N na) (hnh : N.2.2.2.2 = none) (hcls : cN cb = N.1.cls) (hcb : cb < 23) (hl : Cond.methodLinkNest M.1.cls i N.1 host ∈ lw_tbl) (hd : decode M.2.1 pc = .ok (.invokevirtual i, 3)) (ht : tg h b = cb + 1 ∨ (cb = 21 ∧ tg h b = 99)) (hn : As.length = na) (hst : (st.map fun v => v.category).sum ≤ 8) {st0 : List Value} (he : As.reverse ++ .ref b :: st = st0) (hf : f' + 1 ≤ f) (hmc : mc' ≤ k) (hms : ms' ≤ n)
    (hC : Cl G ρ N f' mc' ms' (.ref b :: As) h (fun v h' => At G ρ M f K X (pc + 3) lo (svM N v st) h' (k - mc') (n - ms')) (fun E h' => Ax G ρ M f K X pc lo E h' (k - mc') (n - ms'))) : At G ρ M f K X pc lo st0 h k n := by
  subst he
  refine at_call_core (N := N) (st := st) hmc hms fun p e R s m args below meth c H locs ls cells slots C a1 hsz hc1 hs1 => ⟨(Value.ref b :: As).toArray, ?_⟩
  have hrecv := at_recv hZ hρ C a1 hcb ht
  rw [hcls] at hrecv
  have hrm := rm_ok (N := N) (mc' := mc') (ms' := ms') hf hN.1.2.2.2 C.2.2.2.2.2.1 C.2.2.2.2.2.2.1
  have hw := nest_word hZ C hl
  obtain ⟨⟨g1, g2, g3, g4⟩, g5, g6⟩ := hN
  obtain ⟨y, cc, nL, ret, hh⟩ := N
  simp only at hnh
  subst hnh
  exact vx_runVN C.1 hC ⟨va_cnB na C.1.2.2.2.2 (lw_meth g1) rfl rfl rfl hw (C.1.2.2.2.2 _ g2) g3 hrm, C.1.2.2.2.2 _ g5, C.1.2.2.2.2 _ g6⟩ (preV C a1 hrecv) rfl hn hsz rfl (lv_room hst) hd ⟨hc1, hs1⟩
theorem at_callSN {host : String} (hZ : Bz G) (hN : KS N na) (hnh : N.2.2.2.2 = none) (hl : Cond.methodLinkNest M.1.cls i N.1 host ∈ lw_tbl) (hd : decode M.2.1 pc = .ok (.invokestatic i, 3)) (hn : As.length = na) (hst : (st.map fun v => v.category).sum ≤ 8) {st0 : List Value} (he : As.reverse ++ st = st0) (hf : f' + 1 ≤ f) (hmc : mc' ≤ k) (hms : ms' ≤ n)
    (hC : Cl G ρ N f' mc' ms' As h (fun v h' => At G ρ M f K X (pc + 3) lo (svM N v st) h' (k - mc') (n - ms')) (fun E h' => Ax G ρ M f K X pc lo E h' (k - mc') (n - ms'))) : At G ρ M f K X pc lo st0 h k n := by
  subst he
  refine at_call_core (N := N) (st := st) hmc hms fun p e R s m args below meth c H locs ls cells slots C a1 hsz hc1 hs1 => ⟨As.toArray, ?_⟩
  have hrm := rm_ok (N := N) (mc' := mc') (ms' := ms') hf hN.1.2.2.2 C.2.2.2.2.2.1 C.2.2.2.2.2.2.1
  have hw := nest_word hZ C hl
  obtain ⟨⟨g1, g2, g3, g4⟩, g5⟩ := hN
  obtain ⟨y, cc, nL, ret, hh⟩ := N
  simp only at hnh
  subst hnh
  exact vx_runSN C.1 hC ⟨va_cnB na C.1.2.2.2.2 (lw_meth g1) rfl rfl rfl hw (C.1.2.2.2.2 _ g2) g3 hrm, C.1.2.2.2.2 _ g5, trivial⟩ (preS C a1) rfl hn hsz rfl (lv_room hst) hd ⟨hc1, hs1⟩
theorem at_callIN {b : Nat} {host : String} (hZ : Bz G) (hN : KI N na) (hl : Cond.methodLinkNest M.1.cls i N.1 host ∈ lw_tbl) (hd : decode M.2.1 pc = .ok (.invokespecial i, 3)) (hn : As.length = na) (hst : (st.map fun v => v.category).sum ≤ 8) {st0 : List Value} (he : As.reverse ++ .ref b :: st = st0) (hf : f' + 1 ≤ f) (hmc : mc' ≤ k) (hms : ms' ≤ n)
    (hC : Cl G ρ N f' mc' ms' (.ref b :: As) h (fun v h' => At G ρ M f K X (pc + 3) lo (svM N v st) h' (k - mc') (n - ms')) (fun E h' => Ax G ρ M f K X pc lo E h' (k - mc') (n - ms'))) : At G ρ M f K X pc lo st0 h k n := by
  subst he
  refine at_call_core (N := N) (st := st) hmc hms fun p e R s m args below meth c H locs ls cells slots C a1 hsz hc1 hs1 => ⟨(Value.ref b :: As).toArray, ?_⟩
  have hrm := rm_ok (N := N) (mc' := mc') (ms' := ms') hf hN.1.2.2.2 C.2.2.2.2.2.1 C.2.2.2.2.2.2.1
  have hw := nest_word hZ C hl
  obtain ⟨⟨g1, g2, g3, g4⟩, g5, g6, g7, g8⟩ := hN
  obtain ⟨y, cc, nL, ret, hh⟩ := N
  simp only at g7 g8
  subst g7 g8
  exact vx_runIN C.1 hC ⟨va_cnB na C.1.2.2.2.2 (lw_meth g1) rfl rfl rfl hw (C.1.2.2.2.2 _ g2) g3 hrm, g6, C.1.2.2.2.2 _ g5⟩ (preS C a1) rfl hn hsz rfl (lv_room hst) hd ⟨hc1, hs1⟩
/-- Object.<init> -/
theorem at_objInit {a : Nat} (hl : Cond.methodLink M.1.cls i Lib.objectInit ∈ lw_all) (hi : Cond.instanceMethod Lib.objectInit ∈ lw_all) (hcd : Cond.code Lib.objectInit ⟨#[0xb1]⟩ 1 none ∈ lw_all) (hd : decode M.2.1 pc = .ok (.invokespecial i, 3)) (hf : 1 ≤ f) (hst : (st.map fun v => v.category).sum ≤ 8) (kk : At G ρ M f K X (pc + 3) lo st h k n) : At G ρ M f K X pc lo (.ref a :: st) h k n := by
  intro p e R s m args below meth c H locs ls cells slots mc ms C a1 a2 a3 a4 a5 a6 a7 a8 a9
  have h1 := C.2.2.2.2.2.1
  have h2 := C.2.2.2.2.2.2.1
  refine W.objInit C.1.1 C.1.2.1 C.1.2.2.2.1 (C.1.2.2.2.2 _ hl) (C.1.2.2.2.2 _ hi) (C.1.2.2.2.2 _ hcd) rfl (by rw [C.1.2.2.1]; exact a4.1) rfl hd (by omega) ?_ ?_
  · have : (F0 m pc ls (.ref a :: st)).monitorRoom = 0 := rfl
    rw [this]
    omega
  · exact kk p e R s m args below meth c H locs ls cells slots mc ms C a1 a2 a3 a4 a5 a6 a7 a8 a9
/-! ends -/
theorem at_ireturn {x : Int32} {ty : FieldType} (hret : M.2.2.2.1 = some ty) (hn : narrow ty (.int x) = .int x) (hd : decode M.2.1 pc = .ok (.ireturn, 1)) (hK : K (.int x) h) : At G ρ M f K X pc lo [.int x] h k n := by
  intro p e R s m args below meth c H locs ls cells slots mc ms C a1 a2 a3 a4 a5 a6 a7 a8 a9
  refine vx_ret (W.widen (k := mc) (n := ms) (by omega) (by omega) ?_)
  exact W.zret C.1.1 C.1.2.1 (C.2.1.trans hret) hn (fun t ht hW => ⟨.int x, h, by rw [hret]; rfl, by rw [ht]; exact a1, hK⟩) a3 hd C.2.2.1
theorem at_return (hret : M.2.2.2.1 = none) (hd : decode M.2.1 pc = .ok (.return_, 1)) (hK : K .null h) : At G ρ M f K X pc lo [] h k n := by
  intro p e R s m args below meth c H locs ls cells slots mc ms C a1 a2 a3 a4 a5 a6 a7 a8 a9
  refine vx_ret (W.widen (k := mc) (n := ms) (by omega) (by omega) ?_)
  exact W.vret C.1.1 C.1.2.1 (C.2.1.trans hret) (fun t ht hW => ⟨.null, h, by rw [hret]; rfl, by rw [ht]; exact a1, hK⟩) a3 hd C.2.2.1
theorem at_areturn {v : Value} {ty : FieldType} (hret : M.2.2.2.1 = some ty) (hty : (∃ n, ty = .object n) ∨ ∃ t, ty = .array t) (hv : v.isRef = true) (hd : decode M.2.1 pc = .ok (.areturn, 1)) (hK : K v h) : At G ρ M f K X pc lo [v] h k n := by
  intro p e R s m args below meth c H locs ls cells slots mc ms C a1 a2 a3 a4 a5 a6 a7 a8 a9
  refine vx_ret (W.widen (k := mc) (n := ms) (by omega) (by omega) ?_)
  exact W.aret C.1.1 C.1.2.1 (C.2.1.trans hret) hty (rf_of hv) (fun t ht hW => ⟨v, h, by rw [hret]; rfl, by rw [ht]; exact a1, hK⟩) a3 hd C.2.2.1
/-- an exception goes on to the caller -/
theorem ax_out {E : String} (hno : ∀ x ∈ hhM M, covers x pc = false) (hX : X E h) : Ax G ρ M f K X pc lo E h k n := by
  intro p e R s m args below meth c H locs ls cells slots mc ms q ce rest C a1 a2 a3 a4 a5 a6 a7 a8 a9 b1 b2 b3
  exact vx_out (by rw [C.2.2.2.2.2.2.2.1]; exact hno) C.2.2.1 b1 b2 b3 (fun t ht _ => ⟨h, by rw [ht]; exact a1, hX⟩) a3 (by omega) (by omega)
theorem ax_none {E : String} : Ax G ρ M f K X pc lo E h k n → Ax G ρ M f K X pc lo E h k n := id
/-- the call out of the walk of its body -/
theorem Cl.of {lo0 : List (Option Value)} (hp : plainName M.1.cls = true) (hc : ∀ v ∈ As, v.category = 1) (hle : As.length ≤ M.2.2.1) (hlo : lo0 = As.map some ++ List.replicate (M.2.2.1 - As.length) none) (kk : At G ρ M f K X 0 lo0 [] h k n) : Cl G ρ M f k n As h K X := by
  have hbody : ∀ (p : Program) (e : Env) (s : State) (m : MethodId) (args : Array Value) (below : List Frame) (meth : Method) (c : Code) (s₁ : State), BodyLoose p G.1 M.1 (headSpec (wsM M) (rmM f k n)) M.2.1 M.2.2.1 M.2.2.2.1 e s m args below meth c s₁ → c.maxLocals = M.2.2.1 → c.exceptionTable.toList = hhM M → (∀ w ∈ lw_all, w.before args s = true) → Pcl G ρ As h args s → W p G.1 e (headSpec (wsM M) (rmM f k n)).room s m args below meth c s.heap [] 0 0 (vx_MQ below (Qn G ρ M K) (Qx G ρ X) args s k n (fz G)) (entryFrame m args M.2.2.1) := by
    intro p e s m args below meth c s₁ B hml hex hts hP
    obtain ⟨rfl, hW, hr⟩ := hP
    have hsl0 : ∀ l : List Value, (∀ v ∈ l, v.category = 1) → lg_sl l = l.map Slot.val := by
      intro l
      induction l with
      | nil => intro _; rfl
      | cons v l ih =>
        intro hc
        have hv : ¬ v.category = 2 := by have := hc v List.mem_cons_self; omega
        show (if v.category = 2 then _ else _) ++ lg_sl l = _
        rw [if_neg hv, ih (fun w hw => hc w (List.mem_cons_of_mem _ hw))]
        rfl
    have hsl := hsl0 As hc
    have hl := lv_entry As (n := M.2.2.1) (by rw [hsl, List.length_map]; exact hle)
    rw [lg_entry_eq]
    generalize (lg_sl As ++ List.replicate (M.2.2.1 - (lg_sl As).length) Slot.unset).toArray = ls at hl ⊢
    have hargs : ∀ (l : List Value) (i : Nat), (∀ v ∈ l, v.category = 1) → ∀ (r : Nat), lop i (l.map some ++ List.replicate r none) = lv_args i l := by
      intro l
      induction l with
      | nil =>
        intro i _ r
        induction r generalizing i with
        | zero => rfl
        | succ r ih => exact ih (i + 1)
      | cons v l ih =>
        intro i hv r
        have hv2 : ¬ v.category = 2 := by have := hv v List.mem_cons_self; omega
        show (i, v) :: lop (i + 1) (l.map some ++ List.replicate r none) = (i, v) :: lv_args (if v.category = 2 then i + 2 else i + 1) l
        rw [if_neg hv2, ih (i + 1) (fun w hw => hv w (List.mem_cons_of_mem _ hw)) r]
    have hlop : lop 0 lo0 = lv_args 0 As := by rw [hlo]; exact hargs As 0 hc _
    refine kk p e _ s m As.toArray below meth c s.heap [] ls 0 0 k n ⟨⟨B.exec, B.bytes, hml, findClass_of_methodNamed B.named, hts⟩, B.returns, B.notSynchronized, (name_of_methodNamed B.named B.method).1, hW, Nat.le_refl _, Nat.le_refl _, hex, hr.1, hr.2.1⟩ hr (Nat.le_refl _) (fun x hx => by cases hx) (by rw [hlop]; exact hl) ?_ (by omega) (by omega) (Nat.le_refl _) (Nat.le_refl _)
    intro q hq
    obtain ⟨j, h1, h2⟩ := lop_of 0 hq
    rw [hlo] at h2
    have hm : q.2 ∈ As := by
      have h3 := List.mem_of_getElem? h2
      rcases List.mem_append.mp h3 with h3 | h3
      · obtain ⟨w, hw, he⟩ := List.mem_map.mp h3
        cases he
        exact hw
      · have := List.eq_of_mem_replicate h3
        cases this
    exact hc _ hm
  obtain ⟨y, cc, nL, ret, hh⟩ := M
  cases hh with
  | none =>
    refine vx_ofW (cc := cc) (maxL := nL) (ret := ret) hp rfl fun p e s m args below meth c s₁ B hml ht hP => ?_
    have hts := atoms_spec (ws := wsM (y, cc, nL, ret, none)) B.pre
    refine hbody p e s m args below meth c s₁ B hml ?_ (fun w h => hts w (List.mem_cons_of_mem _ h)) hP
    cases hl : c.exceptionTable.toList with
    | nil => rfl
    | cons x l => exact (ht x (by rw [hl]; exact List.mem_cons_self)).elim
  | some hh =>
    refine vx_ofWH (cc := cc) (maxL := nL) (ret := ret) (hh := hh) hp rfl fun p e s m args below meth c s₁ B hml hP => ?_
    have hts := atoms_spec (ws := wsM (y, cc, nL, ret, some hh)) B.pre
    exact hbody p e s m args below meth c s₁ B hml (vx_table (x := y) B (hts _ List.mem_cons_self)) (fun w h => hts w (List.mem_cons_of_mem _ h)) hP
end Calls
