/-! INTERFACES, CASTS, SWITCHES, HANDLERS for 'At' -/
set_option maxRecDepth 100000
/-- an interface's method x that method N of its own class answers -/
def KF (x : MethodName) (N : Md) (na : Nat) : Prop := KM N na ∧ Cond.instanceMethod N.1 ∈ lw_all ∧ Cond.selects N.1.cls x N.1 ∈ lw_all ∧ Cond.declares x ∈ lw_tbl ∧ Cond.interfaceMethod x.cls x.cls x.name x.desc ∈ lw_tbl ∧ Cond.publicMethod N.1 ∈ lw_tbl ∧ Cond.unhidden N.1.cls x.name x.desc ∈ lw_tbl ∧ Cond.castable N.1.cls x.cls ∈ lw_tbl ∧ (x.cls ≠ "java/lang/invoke/MethodHandle" ∧ x.cls ≠ "java/lang/invoke/VarHandle" ∧ (parseMethodDescriptor x.desc).map (fun d => d.parameters.length) = some na)
section More
variable {G : Gv} {ρ : Hp → Heap → Prop} {M : Md} {f : Nat} {K : Value → Hp → Prop} {X : String → Hp → Prop} {pc : Nat} {lo : List (Option Value)} {st : List Value} {h : Hp} {k n : Nat}
variable {N : Md} {f' mc' ms' na i : Nat} {As : List Value} {K' : Value → Hp → Prop} {X' : String → Hp → Prop}
theorem W_ofRun5 {p : Program} {e : Env} {R : Room} {s : State} {m : MethodId} {args : Array Value} {below : List Frame} {meth : Method} {c : Code} {H : Heap} {locs : List Loc} {ls : Array Slot} {cells slots : Nat} {Q : State → Prop} {a : Array Value} {st0 : List Value}
    (hr : vx_Run5 p G.1 e R s m args below meth c H locs cells slots mc' ms' (F0 m pc ls st0) st (Qn G ρ N K' a) (Qx G ρ X') (fz G)) (a3 : ∀ x ∈ locs, zs G ≤ x.base)
    (k1 : ∀ (v : Value) (h' : Hp) (H' : Heap) (locs' : List Loc), Rl G ρ h' H' → K' v h' → (∀ x ∈ locs', zs G ≤ x.base) → s.heap.size ≤ H'.size → W p G.1 e R s m args below meth c H' locs' (cells + mc') (slots + ms') Q (F0 m (pc + 5) ls (svM N v st)))
    (k2 : ∀ (E : String) (h' : Hp) (H' : Heap) (locs' : List Loc) (q : Addr) (ce : Cell), Rl G ρ h' H' → X' E h' → (∀ x ∈ locs', zs G ≤ x.base) → s.heap.size ≤ H'.size → H'[q]? = some ce → ce.vm = .none → s.vm.findClass E = some ce.cls → vx_W p G.1 e R s m args below meth c H' locs' (cells + mc') (slots + ms') Q (F0 m pc ls st) q) :
    W p G.1 e R s m args below meth c H locs cells slots Q (F0 m pc ls st0) := by
  intro T hT Y
  have loc' : ∀ L : List Loc, (∀ q ∈ L, fz G q.base) → ∀ x ∈ locs ++ L, zs G ≤ x.base := fun L hL x hx => by
    rcases List.mem_append.mp hx with hx | hx
    · exact a3 x hx
    · exact hL x hx
  rcases hr T hT Y with ⟨v, st₀, t, T', L, h0, Y', hL, e1, e2, ⟨v', h', hv, hrl, hk⟩, go⟩ | ⟨q, st₀, t, T', L, E, ce, h0, Y', hL, e1, e2, ⟨h', hrl, hx⟩, hce, hcv, hcl, go⟩
  · have hv : v = if N.2.2.2.1.isSome = true then some v' else none := by cases hv; rfl
    obtain ⟨t2, b1, b2⟩ := k1 v' h' t.heap (locs ++ L) hrl hk (loc' L hL) (by rw [← e1]; exact (vx_frame Y'.same).1) T' e1 Y'
    refine ⟨t2, go t2 ?_, b2⟩
    have he : v.toList ++ st = svM N v' st := by
      rw [hv]
      unfold svM
      split <;> rfl
    rw [he]
    exact b1
  · obtain ⟨t2, b1, b2⟩ := k2 E h' t.heap (locs ++ L) q ce hrl hx (loc' L hL) (by rw [← e1]; exact (vx_frame Y'.same).1) hce hcv hcl T' e1 Y'
    exact ⟨t2, Steps.trans go b1, b2⟩
theorem cast_word {p : Program} {R : Room} {s : State} {m : MethodId} {args : Array Value} {meth : Method} {c : Code} {A B : String} (hZ : Bz G) (C : Cx G M f p R s m args meth c) (hw : Cond.castable A B ∈ lw_tbl) : va_Nw (.castable A B) s := by
  obtain ⟨az, haz⟩ := hZ.2.2.2
  exact va_Nw.warmC C.2.2.2.2.1 (va_Nw.of rfl (haz _ hw))
theorem at_callF {b cb count : Nat} {x : MethodName} (hZ : Bz G) (hρ : Good G ρ) (hN : KF x N na) (hnh : N.2.2.2.2 = none) (hcls : cN cb = N.1.cls) (hcb : cb < 23) (hl : Cond.methodLink M.1.cls i x ∈ lw_all) (hd : decode M.2.1 pc = .ok (.invokeinterface i count, 5)) (ht : tg h b = cb + 1 ∨ (cb = 21 ∧ tg h b = 99)) (hn : As.length = na) (hst : (st.map fun v => v.category).sum ≤ 8) {st0 : List Value} (he : As.reverse ++ .ref b :: st = st0) (hf : f' + 1 ≤ f) (hmc : mc' ≤ k) (hms : ms' ≤ n)
    (hC : Cl G ρ N f' mc' ms' (.ref b :: As) h (fun v h' => At G ρ M f K X (pc + 5) lo (svM N v st) h' (k - mc') (n - ms')) (fun E h' => Ax G ρ M f K X pc lo E h' (k - mc') (n - ms'))) : At G ρ M f K X pc lo st0 h k n := by
  subst he
  intro p e R s m args below meth c H locs ls cells slots mc ms C a1 a2 a3 a4 a5 a6 a7 a8 a9
  have hrecv := at_recv hZ hρ C a1 hcb ht
  rw [hcls] at hrecv
  have hrm := rm_ok (N := N) (mc' := mc') (ms' := ms') hf hN.1.2.2.2 C.2.2.2.2.2.1 C.2.2.2.2.2.2.1
  obtain ⟨az, haz⟩ := hZ.2.2.2
  have hKn := u_Kn_moved C.2.2.2.2.1.alike (hZ.2.1 cb hcb)
  rw [hcls] at hKn
  obtain ⟨⟨g1, g2, g3, g4⟩, g5, g6, g7, g8, g9, g10, g11, g12⟩ := hN
  have hFw : va_Fw N.1.cls x N.1 s := va_Fw.moved ⟨g12.1, g12.2.1⟩ C.2.2.2.2.1.alike (va_Fw.of (haz _ g7) (haz _ g8) (haz _ g9) (haz _ g10) (haz _ g11))
  obtain ⟨y, cc, nL, ret, hh⟩ := N
  simp only at hnh
  subst hnh
  have hgood : GoodIn lw_all (va_wsF M.1.cls i y.cls x y (ws_ y cc nL ret)) := by
    refine lw_app (a := [.methodLink M.1.cls i x, .selects y.cls x y, .instanceMethod y, .initialized y.cls]) (fun w hw => ?_) (lw_meth g1)
    rcases List.mem_cons.mp hw with rfl | hw
    · exact hl
    rcases List.mem_cons.mp hw with rfl | hw
    · exact g6
    rcases List.mem_cons.mp hw with rfl | hw
    · exact g5
    · rw [List.mem_singleton.mp hw]; exact g2
  have hr := vx_runF (slots := slots) (cells := cells) (below := below) (e := e) (locs := locs) (meth := meth) (H := H) hKn.2 C.1 hC (va_cwF na C.1.2.2.2.2 hgood rfl rfl rfl hFw g12 hrm) (preV C a1 hrecv) (g := F0 m pc ls (As.reverse ++ .ref b :: st)) (rest := st) rfl hn a4.1 rfl (lv_room hst) hd ⟨by omega, by omega⟩
  refine W_ofRun5 hr a3 (fun v h' H' locs' r1 r2 r3 r4 => ?_) (fun E h' H' locs' q ce r1 r2 r3 r4 r5 r6 r7 => ?_)
  · exact r2 p e R s m args below meth c H' locs' ls (cells + mc') (slots + ms') mc ms C r1 r4 r3 a4 a5 (by omega) (by omega) a8 a9
  · exact r2 p e R s m args below meth c H' locs' ls (cells + mc') (slots + ms') mc ms q ce st C r1 r4 r3 a4 a5 (by omega) (by omega) a8 a9 r5 r6 r7
/-! casts -/
theorem at_castN (hd : decode M.2.1 pc = .ok (.checkcast i, 3)) (kk : At G ρ M f K X (pc + 3) lo (.null :: st) h k n) : At G ρ M f K X pc lo (.null :: st) h k n :=
  At.pure (fun _ _ _ _ _ _ _ _ _ _ _ _ _ _ _ hx hb ho hts hl k => lv_castN hx hb hd k) kk
theorem at_instN (hd : decode M.2.1 pc = .ok (.instanceof i, 3)) (kk : At G ρ M f K X (pc + 3) lo (.int 0 :: st) h k n) : At G ρ M f K X pc lo (.null :: st) h k n :=
  At.pure (fun _ _ _ _ _ _ _ _ _ _ _ _ _ _ _ hx hb ho hts hl k => lv_instN hx hb hd k) kk
theorem at_castY {b cb : Nat} {nm : String} (hZ : Bz G) (hρ : Good G ρ) (hcb : cb < 23) (hw : Cond.castable (cN cb) nm ∈ lw_tbl) (hl : Cond.classLink M.1.cls i nm ∈ lw_all) (ht : tg h b = cb + 1 ∨ (cb = 21 ∧ tg h b = 99)) (hd : decode M.2.1 pc = .ok (.checkcast i, 3)) (kk : At G ρ M f K X (pc + 3) lo (.ref b :: st) h k n) : At G ρ M f K X pc lo (.ref b :: st) h k n := by
  intro p e R s m args below meth c H locs ls cells slots mc ms C a1 a2 a3 a4 a5 a6 a7 a8 a9
  exact va_castY C.1.1 C.1.2.1 C.1.2.2.2.1 (C.1.2.2.2.2 _ hl) (cast_word hZ C hw) (at_recv hZ hρ C a1 hcb ht) hd (kk p e R s m args below meth c H locs ls cells slots mc ms C a1 a2 a3 a4 a5 a6 a7 a8 a9)
theorem at_castS {b cb : Nat} (hZ : Bz G) (hρ : Good G ρ) (hcb : cb < 23) (hl : Cond.classLink M.1.cls i (cN cb) ∈ lw_all) (ht : tg h b = cb + 1 ∨ (cb = 21 ∧ tg h b = 99)) (hd : decode M.2.1 pc = .ok (.checkcast i, 3)) (kk : At G ρ M f K X (pc + 3) lo (.ref b :: st) h k n) : At G ρ M f K X pc lo (.ref b :: st) h k n := by
  intro p e R s m args below meth c H locs ls cells slots mc ms C a1 a2 a3 a4 a5 a6 a7 a8 a9
  exact va_castS C.1.1 C.1.2.1 C.1.2.2.2.1 (C.1.2.2.2.2 _ hl) (u_Kn_moved C.2.2.2.2.1.alike (hZ.2.1 cb hcb)).2 (at_recv hZ hρ C a1 hcb ht) hd (kk p e R s m args below meth c H locs ls cells slots mc ms C a1 a2 a3 a4 a5 a6 a7 a8 a9)
theorem at_instS {b cb : Nat} (hZ : Bz G) (hρ : Good G ρ) (hcb : cb < 23) (hl : Cond.classLink M.1.cls i (cN cb) ∈ lw_all) (ht : tg h b = cb + 1 ∨ (cb = 21 ∧ tg h b = 99)) (hd : decode M.2.1 pc = .ok (.instanceof i, 3)) (kk : At G ρ M f K X (pc + 3) lo (.int 1 :: st) h k n) : At G ρ M f K X pc lo (.ref b :: st) h k n := by
  intro p e R s m args below meth c H locs ls cells slots mc ms C a1 a2 a3 a4 a5 a6 a7 a8 a9
  exact va_instS C.1.1 C.1.2.1 C.1.2.2.2.1 (C.1.2.2.2.2 _ hl) (u_Kn_moved C.2.2.2.2.1.alike (hZ.2.1 cb hcb)).2 (at_recv hZ hρ C a1 hcb ht) hd (kk p e R s m args below meth c H locs ls cells slots mc ms C a1 a2 a3 a4 a5 a6 a7 a8 a9)
/-- classes that the start says not to be one another's -/
def ncL : List (String × String) := [("Precedence$Length", "Precedence$Reference"), ("Precedence$Plain", "Precedence$Length"), ("Precedence$Plain", "Precedence$Reference"), ("Precedence$Reference", "Precedence$Length"), ("java/lang/IllegalArgumentException", "java/lang/IllegalStateException"), ("java/lang/IllegalArgumentException", "java/lang/IndexOutOfBoundsException"), ("java/lang/IllegalStateException", "java/lang/IllegalArgumentException"), ("java/lang/IllegalStateException", "java/lang/IndexOutOfBoundsException"), ("java/lang/IndexOutOfBoundsException", "java/lang/IllegalArgumentException"), ("java/lang/IndexOutOfBoundsException", "java/lang/IllegalStateException")]
def Bn (G : Gv) : Prop := ∀ q ∈ ncL, va_Nc q.1 q.2 G.2.1
theorem at_instNo {b cb : Nat} {nm : String} (hZ : Bz G) (hB : Bn G) (hρ : Good G ρ) (hcb : cb < 23) (hq : (cN cb, nm) ∈ ncL) (hl : Cond.classLink M.1.cls i nm ∈ lw_all) (ht : tg h b = cb + 1 ∨ (cb = 21 ∧ tg h b = 99)) (hd : decode M.2.1 pc = .ok (.instanceof i, 3)) (kk : At G ρ M f K X (pc + 3) lo (.int 0 :: st) h k n) : At G ρ M f K X pc lo (.ref b :: st) h k n := by
  intro p e R s m args below meth c H locs ls cells slots mc ms C a1 a2 a3 a4 a5 a6 a7 a8 a9
  exact va_instNo C.1.1 C.1.2.1 C.1.2.2.2.1 (C.1.2.2.2.2 _ hl) (va_Nc.moved C.2.2.2.2.1.alike (hB _ hq)) (at_recv hZ hρ C a1 hcb ht) hd (kk p e R s m args below meth c H locs ls cells slots mc ms C a1 a2 a3 a4 a5 a6 a7 a8 a9)
/-! switches -/
theorem at_tableIn {dflt lo1 hi : Int} {offs : Array Int} {len : Nat} {x : Int32} {off : Int} {tgt : Nat} (hd : decode M.2.1 pc = .ok (.tableswitch dflt lo1 hi offs, len)) (h1 : ¬ x.toInt < lo1) (h2 : ¬ hi < x.toInt) (ho : offs[(x.toInt - lo1).toNat]? = some off) (ht : (pc : Int) + off = (tgt : Int)) (kk : At G ρ M f K X tgt lo st h k n) : At G ρ M f K X pc lo (.int x :: st) h k n :=
  At.pure (fun _ _ _ _ _ _ _ _ _ _ _ _ _ _ _ hx hb _ hts hl k => lv_tableIn hx hb hd h1 h2 ho ht k) kk
theorem at_tableOut {dflt lo1 hi : Int} {offs : Array Int} {len : Nat} {x : Int32} {tgt : Nat} (hd : decode M.2.1 pc = .ok (.tableswitch dflt lo1 hi offs, len)) (h1 : x.toInt < lo1 ∨ hi < x.toInt) (ht : (pc : Int) + dflt = (tgt : Int)) (kk : At G ρ M f K X tgt lo st h k n) : At G ρ M f K X pc lo (.int x :: st) h k n :=
  At.pure (fun _ _ _ _ _ _ _ _ _ _ _ _ _ _ _ hx hb _ hts hl k => lv_tableOut hx hb hd h1 ht k) kk
theorem at_lookup {dflt : Int} {ps : Array (Int × Int)} {len : Nat} {x : Int32} {off : Int} {tgt : Nat} (hd : decode M.2.1 pc = .ok (.lookupswitch dflt ps, len)) (hp : (ps.toList.zip (ps.toList.drop 1)).all (fun (a, next) => a.1 < next.1) = true) (ho : Op.lookupswitch.offset ps.toList dflt x.toInt = off) (ht : (pc : Int) + off = (tgt : Int)) (kk : At G ρ M f K X tgt lo st h k n) : At G ρ M f K X pc lo (.int x :: st) h k n :=
  At.pure (fun _ _ _ _ _ _ _ _ _ _ _ _ _ _ _ hx hb _ hts hl k => lv_lookup hx hb hd hp ho ht k) kk
/-! handlers -/
theorem ax_catch {E nm : String} (hZ : Bz G) (hB : Bn G) (pre : List ExceptionTableEntry) (x : ExceptionTableEntry) (suf : List ExceptionTableEntry) (hsplit : hhM M = pre ++ x :: suf)
    (hpass : ∀ z ∈ pre, covers z pc = false ∨ (z.catchType ≠ 0 ∧ ∃ nm : String, Cond.classLink M.1.cls z.catchType nm ∈ lw_all ∧ (E, nm) ∈ ncL)) (hx : covers x pc = true) (h0 : x.catchType ≠ 0)
    (hl : Cond.classLink M.1.cls x.catchType nm ∈ lw_all) (hw : Cond.castable E nm ∈ lw_tbl) {hp : Nat} (hhp : x.handlerPc = hp) (kk : ∀ q, At G ρ M f K X hp lo [.ref q] h k n) : Ax G ρ M f K X pc lo E h k n := by
  subst hhp
  intro p e R s m args below meth c H locs ls cells slots mc ms q ce rest C a1 a2 a3 a4 a5 a6 a7 a8 a9 b1 b2 b3
  refine vx_catch C.1.2.2.2.1 pre x suf (by rw [C.2.2.2.2.2.2.2.1]; exact hsplit) (fun z hz => ?_) hx h0 (C.1.2.2.2.2 _ hl) (va_Nw.use rfl (cast_word hZ C hw)) b1 b2 b3 (kk q p e R s m args below meth c H locs ls cells slots mc ms C a1 a2 a3 a4 a5 a6 a7 a8 a9)
  rcases hpass z hz with h1 | ⟨h1, nm', h2, h3⟩
  · exact Or.inl h1
  · exact Or.inr ⟨h1, nm', C.1.2.2.2.2 _ h2, va_Nc.moved C.2.2.2.2.1.alike (hB _ h3)⟩
end More
