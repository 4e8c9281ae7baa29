/-! 'throw new E()' for the JDK's three exceptions, in Precedence.find, check, allow -/
set_option maxRecDepth 100000
/-- what the start says of Throwable's two statics -/
def Bt (G : Gv) : Prop := vx_Zq Bundle.tN "UNASSIGNED_STACK" Bundle.steD (fz G) G.2.1 G.2.1.heap ∧ vx_Zq Bundle.tN "SUPPRESSED_SENTINEL" Bundle.listD (fz G) G.2.1 G.2.1.heap
theorem tbl_in (ws : List Cond) (ps : List Nat) (hp : ws = ps.filterMap (fun i => lw_tbl[i]?)) : ∀ w ∈ ws, w ∈ lw_tbl := by
  intro w hw
  rw [hp] at hw
  obtain ⟨i, -, hi⟩ := List.mem_filterMap.mp hw
  exact List.mem_of_getElem? hi
def rideW : Cond → Bool
  | .castable _ _ => true
  | .declares _ => true
  | w => goodWord w
section Thr
variable {G : Gv} {ρ : Hp → Heap → Prop} {M : Md} {f : Nat} {K : Value → Hp → Prop} {X : String → Hp → Prop} {pc : Nat} {lo : List (Option Value)} {st : List Value} {h : Hp} {k n : Nat}
theorem ride {p : Program} {R : Room} {s : State} {m : MethodId} {args : Array Value} {meth : Method} {c : Code} (hZ : Bz G) (C : Cx G M f p R s m args meth c) {w : Cond} (hw : w ∈ lw_tbl) (hr : rideW w = true) : w.before args s = true := by
  by_cases hg : goodWord w = true
  · exact C.1.2.2.2.2 _ (lw_g hw hg)
  · obtain ⟨az, haz⟩ := hZ.2.2.2
    cases w with
    | castable A B => exact va_Nw.use rfl (cast_word hZ C hw)
    | declares x => exact va_Nw.use rfl (va_Nw.warmD C.2.2.2.2.1 (va_Nw.of rfl (haz _ hw)))
    | _ => exact absurd hr hg
theorem vaS_of {p : Program} {R : Room} {s : State} {m : MethodId} {args : Array Value} {meth : Method} {c : Code} {H : Heap} {locs : List Loc} (C : Cx G M f p R s m args meth c) (a1 : Rl G ρ h H) (a2 : s.heap.size ≤ H.size) (a3 : ∀ x ∈ locs, zs G ≤ x.base) : va_S (fz G) s.heap H locs := by
  refine ⟨a2, fun q h1 h2 => ?_, a3⟩
  have hq : q < zs G := Nat.not_le.mp h2
  rw [a1.2.1 q hq, C.2.2.2.2.2.2.2.2.2 q hq]
theorem at_throw0 {E : String} {ik ic : Nat} {names : List String} (hZ : Bz G) (hT : Bt G) (hρ : Good G ρ) (hE : Bundle.fit E = true) (hnames : ∀ n ∈ names, Bundle.fit n = true) (hk : Cond.classLink M.1.cls ik E ∈ lw_all) (hini : Cond.initialized E ∈ lw_all) (hat : ∀ w ∈ vx_at0 M.1.cls ic E names, w ∈ lw_tbl) (hri : (vx_at0 M.1.cls ic E names).all rideW = true) (hgo : (Cond.classLink M.1.cls ik E :: Cond.initialized E :: vx_at0 M.1.cls ic E names).all vx_ot = true)
    (d0 : decode M.2.1 pc = .ok (.new ik, 3)) (d3 : decode M.2.1 (pc + 3) = .ok (.dup, 1)) (d4 : decode M.2.1 (pc + 4) = .ok (.invokespecial ic, 3)) (d7 : decode M.2.1 (pc + 7) = .ok (.athrow, 1)) (hout : ∀ x ∈ hhM M, covers x (pc + 7) = false) (hf : names.length + 4 ≤ f) (hst : (st.map fun v => v.category).sum ≤ 8) (h1 : 1 ≤ k) (h2 : 6 ≤ n) (hX : X E h) : At G ρ M f K X pc lo st h k n := by
  intro p e R s m args below meth c H locs ls cells slots mc ms C a1 a2 a3 a4 a5 a6 a7 a8 a9
  have g1 := C.2.2.2.2.2.1
  have g2 := C.2.2.2.2.2.2.1
  have hkeep : ∀ a : Nat, a < G.2.1.heap.size → ¬ fz G a → s.heap[a]? = G.2.1.heap[a]? := fun a _ h2 => C.2.2.2.2.2.2.2.2.2 a (Nat.not_le.mp h2)
  exact vx_throw0 (A := fz G) C.1.1 C.1.2.1 hZ.1 C.1.2.2.2.1 hE hnames (C.1.2.2.2.2 _ hk) (C.1.2.2.2.2 _ hini) (fun w hw => ride hZ C (hat w hw) (List.all_eq_true.mp hri w hw)) (fun w hw => List.all_eq_true.mp hgo w hw)
    ((vx_Zq.moved C.2.2.2.2.1.alike hT.1).kept hkeep) ((vx_Zq.moved C.2.2.2.2.1.alike hT.2).kept hkeep) (vaS_of C a1 a2 a3) (by rw [C.1.2.2.1]; exact a4.1) d0 d3 d4 d7 (by rw [C.2.2.2.2.2.2.2.1]; exact hout) (by omega) (by omega) (by omega) (by omega) C.2.2.1
    (fun t _ z1 z2 => ⟨h, ⟨Nat.le_trans a1.1 z1, fun q hq => by rw [z2 q (Nat.lt_of_lt_of_le hq a1.1)]; exact a1.2.1 q hq, (hρ h H a1.2.2).2.2.2 _ z1 z2⟩, hX⟩) a3 (by omega) (by omega)
end Thr
theorem thr_find_in : ∀ w ∈ vx_at0 "Precedence" 109 "java/lang/IndexOutOfBoundsException" ["java/lang/RuntimeException", "java/lang/Exception"], w ∈ lw_tbl := tbl_in _ [121, 540, 549, 555, 558, 560, 541, 542, 160, 161, 543, 548, 556, 781, 530, 782, 532, 783, 534, 544, 546, 536, 1562, 1563, 1564, 1565, 521, 1565, 1566, 1567, 1360, 523, 1360, 1361, 1362, 541, 525, 1561, 1553, 1554, 1555, 554, 1556, 1557, 1558, 1559, 539, 538, 1560] (by decide +kernel)
theorem thr_find_ri : (vx_at0 "Precedence" 109 "java/lang/IndexOutOfBoundsException" ["java/lang/RuntimeException", "java/lang/Exception"]).all rideW = true := by decide +kernel
theorem thr_find_go : (Cond.classLink "Precedence" 107 "java/lang/IndexOutOfBoundsException" :: Cond.initialized "java/lang/IndexOutOfBoundsException" :: vx_at0 "Precedence" 109 "java/lang/IndexOutOfBoundsException" ["java/lang/RuntimeException", "java/lang/Exception"]).all vx_ot = true := by decide +kernel
theorem thr_check_in : ∀ w ∈ vx_at0 "Precedence" 112 "java/lang/IllegalArgumentException" ["java/lang/RuntimeException", "java/lang/Exception"], w ∈ lw_tbl := tbl_in _ [121, 540, 549, 555, 558, 560, 541, 542, 160, 161, 543, 548, 556, 781, 530, 782, 532, 783, 534, 544, 546, 536, 1575, 1576, 1577, 1565, 521, 1565, 1566, 1567, 1360, 523, 1360, 1361, 1362, 541, 525, 1574, 519, 520, 527, 528, 529, 531, 533, 535, 539, 538, 537] (by decide +kernel)
theorem thr_check_ri : (vx_at0 "Precedence" 112 "java/lang/IllegalArgumentException" ["java/lang/RuntimeException", "java/lang/Exception"]).all rideW = true := by decide +kernel
theorem thr_check_go : (Cond.classLink "Precedence" 110 "java/lang/IllegalArgumentException" :: Cond.initialized "java/lang/IllegalArgumentException" :: vx_at0 "Precedence" 112 "java/lang/IllegalArgumentException" ["java/lang/RuntimeException", "java/lang/Exception"]).all vx_ot = true := by decide +kernel
theorem thr_allow_in : ∀ w ∈ vx_at0 "Precedence" 115 "java/lang/IllegalStateException" ["java/lang/RuntimeException", "java/lang/Exception"], w ∈ lw_tbl := tbl_in _ [121, 540, 549, 555, 558, 560, 541, 542, 160, 161, 543, 548, 556, 781, 530, 782, 532, 783, 534, 544, 546, 536, 1595, 1596, 1597, 1565, 521, 1565, 1566, 1567, 1360, 523, 1360, 1361, 1362, 541, 525, 1594, 1586, 1587, 1588, 553, 1589, 1590, 1591, 1592, 539, 538, 1593] (by decide +kernel)
theorem thr_allow_ri : (vx_at0 "Precedence" 115 "java/lang/IllegalStateException" ["java/lang/RuntimeException", "java/lang/Exception"]).all rideW = true := by decide +kernel
theorem thr_allow_go : (Cond.classLink "Precedence" 113 "java/lang/IllegalStateException" :: Cond.initialized "java/lang/IllegalStateException" :: vx_at0 "Precedence" 115 "java/lang/IllegalStateException" ["java/lang/RuntimeException", "java/lang/Exception"]).all vx_ot = true := by decide +kernel
