theorem zk_lwO {own owner C : String} {idx : Nat} {x y : MethodName} {b : ByteArray} {L : Nat} {r : Option FieldType} (h1 : Cond.methodLink own idx x ∈ lw_all) (h2 : Cond.sameMethod x.cls owner x.name x.desc ∈ lw_all) (h3 : Cond.instanceMethod ⟨owner, x.name, x.desc⟩ ∈ lw_all) (h4 : Cond.selects C x y ∈ lw_all) (h5 : Cond.instanceMethod y ∈ lw_all) (h6 : Cond.initialized y.cls ∈ lw_all) (h7 : Cond.code y b L r ∈ lw_all) : GoodIn lw_all (va_wsO own idx C owner x y (ws_ y b L r)) := by
  refine lw_app ?_ (lw_meth h7)
  intro w hw
  simp only [List.mem_cons, List.not_mem_nil, or_false] at hw
  rcases hw with e | e | e | e | e | e
  · rw [e]; exact h1
  · rw [e]; exact h2
  · rw [e]; exact h3
  · rw [e]; exact h4
  · rw [e]; exact h5
  · rw [e]; exact h6
theorem zk_lwF {own C : String} {idx : Nat} {x y : MethodName} {b : ByteArray} {L : Nat} {r : Option FieldType} (h1 : Cond.methodLink own idx x ∈ lw_all) (h4 : Cond.selects C x y ∈ lw_all) (h5 : Cond.instanceMethod y ∈ lw_all) (h6 : Cond.initialized y.cls ∈ lw_all) (h7 : Cond.code y b L r ∈ lw_all) : GoodIn lw_all (va_wsF own idx C x y (ws_ y b L r)) := by
  refine lw_app ?_ (lw_meth h7)
  intro w hw
  simp only [List.mem_cons, List.not_mem_nil, or_false] at hw
  rcases hw with e | e | e | e
  · rw [e]; exact h1
  · rw [e]; exact h4
  · rw [e]; exact h5
  · rw [e]; exact h6
theorem zk_fw {C : String} {x y : MethodName} {s : State} (h : zk_X s) (hq : (C, x, y) ∈ zk_fws) : va_Fw C x y s := h.1 _ hq
theorem zk_li {C : String} {x : MethodName} {s : State} (h : zk_X s) (hq : (C, x) ∈ zk_lid) : va_Nw (.landsInDefault C x zk_yfn) s := h.2.2.2.2.2.1 _ hq
section ZPER2
variable {p : Program} {l : Launch} {e : Env} {R : Room} {s : State} {m : MethodId} {args : Array Value} {below : List Frame} {meth : Method} {c : Code} {H : Heap} {locs : List Loc} {cells slots : Nat} {Q : State → Prop}
variable {cc : ByteArray} {pc : Nat} {ls : Array Slot} {rest st0 : List Value} {A : Nat → Prop} {H0 : Heap} {C : String} {b : Nat} {r : Int}
variable {y : MethodName} {bytes : ByteArray} {maxL nL n index : Nat} {ret : Option FieldType} {wd : List Cond} {rm : Room} {own : String} {As : List Value} {Ts : List Cond}
theorem zc_per {D : va_G} {o : Nat} {bb : Nat → Nat → Nat} {dA : Nat → ClassId} {π σ : ZS} {i : Int} {q : vw_C} (k : Nat) (hKX : zk_KX D zk_cl (zk_ty dA) s) (hP : va_P D zk_cl (zc_P o bb dA π σ) H) (h : (0 ≤ i ∧ i < 6) ∧ (0 ≤ π 8 i ∧ π 8 i ≤ 5)) (hk : π 8 i = (k : Int)) (hc : zk_cl[k + 2]? = some q) : zk_rc q.1 (bb 400 i.toNat) s H := by
  obtain ⟨n, hn⟩ := zc_at8 (o := o) (b := bb) (dA := dA) (π := π) (σ := σ) (r := i) ⟨h.1, h.2.1⟩
  have e : (π 8 i).toNat + 2 = k + 2 := by rw [hk]; rfl
  rw [e] at hn
  exact ⟨va_recv hKX.1 hP hc hn, _, (hKX.1.1 (k + 2) q hc).2⟩
theorem zk_callU {x : MethodName} {owner : String} (S : CallFix p m c cc nL s args Ts own) (hM : zk_MP l y wd rm C b (.ref b :: As) r) (cw : va_CU R s args own C owner index x y bytes maxL ret wd rm 0 0 n) (hX : zk_X s) (hrc : zk_rc C b s H) (hS : va_S A H0 H locs)
    (hn : As.length = n) (hls : ls.size = nL) (hst : st0 = As.reverse ++ .ref b :: rest) (hR : (rest.map fun v => v.category).sum ≤ 8) (hdg : decode cc pc = .ok (.invokevirtual index, 3)) (hcs : cells ≤ R.cells ∧ slots ≤ R.slots)
    (kk : ∀ (H1 : Heap) (locs1 : List Loc), (∀ q : Nat, q < H.size → H1[q]? = H[q]?) → va_S A H0 H1 locs1 → W p l e R s m args below meth c H1 locs1 cells slots Q (F0 m (pc + 3) ls (zk_I r :: rest))) : W p l e R s m args below meth c H locs cells slots Q (F0 m pc ls st0) := by
  exact zk_call (va_runU (As := As) (rest := rest) (g := F0 m pc ls st0) (H := H) (locs := locs) (cells := cells) (slots := slots) S hM cw ⟨zk_blindP, hrc.1, zk_preP hX hrc⟩ rfl hn hls hst (lv_room hR) hdg hcs) hS (fun q _ z => z.elim) (fun q z => z.elim) (fun t H1 locs1 ht hB _ hk hS1 => kk H1 locs1 (fun q hq => hk q hq (fun z => z)) hS1)
theorem zk_callFD {x : MethodName} {count : Nat} (S : CallFix p m c cc nL s args Ts own) (hM : zk_MP l y wd rm C b (.ref b :: As) r) (hl1 : (Cond.methodLink own index x).before args s = true) (hF : va_Fw C x y s) (hL : va_Nw (.landsInDefault C x y) s) (hinst : (Cond.instanceMethod y).before args s = true) (hini : (Cond.initialized y.cls).before args s = true)
    (hws : ∀ w ∈ wd, ∀ (a' : Array Value) (U : State), s.WarmedH U.vm → w.before a' U = true) (hcw : Cond.code y bytes maxL ret ∈ wd) (hrm0 : rm.cells = 0) (hrs : rm.slots = 0)
    (hd : x.cls ≠ "java/lang/invoke/MethodHandle" ∧ x.cls ≠ "java/lang/invoke/VarHandle" ∧ (parseMethodDescriptor x.desc).map (fun d => d.parameters.length) = some n) (hRm : rm.frames + 1 ≤ R.frames ∧ 8 + (maxL + 11) + rm.locals ≤ R.locals) (hX : zk_X s) (hrc : zk_rc C b s H) (hS : va_S A H0 H locs)
    (hn : As.length = n) (hls : ls.size = nL) (hst : st0 = As.reverse ++ .ref b :: rest) (hR : (rest.map fun v => v.category).sum ≤ 8) (hdg : decode cc pc = .ok (.invokeinterface index count, 5)) (hcs : cells ≤ R.cells ∧ slots ≤ R.slots)
    (kk : ∀ (H1 : Heap) (locs1 : List Loc), (∀ q : Nat, q < H.size → H1[q]? = H[q]?) → va_S A H0 H1 locs1 → W p l e R s m args below meth c H1 locs1 cells slots Q (F0 m (pc + 5) ls (zk_I r :: rest))) : W p l e R s m args below meth c H locs cells slots Q (F0 m pc ls st0) := by
  have hK : Back l R p e below s args y 5 8 (PreOf R 0 0 (va_Pc (.ref b :: As) (fun U => zk_rc C b U U.heap ∧ zk_X U))) (PostOf (zk_Q (some (zk_I r)) (fun _ => True) (fun _ => False)) 0 0 (fun _ => False)) := back_of (bytes := bytes) (maxL := maxL) (ret := ret) hM zk_blindP hrm0 hrs hRm.1 hRm.2 hws hcw (fun a' U hW => word_at hW (Or.inl (by first | rfl | simp [Cond.onTables, Cond.keeps, Cond.steady])) hini)
  obtain ⟨hx, hb, hml, ho, -⟩ := S
  have hlen : ∀ sig, parseMethodDescriptor x.desc = some sig → n = sig.parameters.length := fun sig h => by
    have h2 := hd.2.2
    rw [h] at h2
    exact (Option.some.inj h2).symm
  have hrc0 := hrc
  obtain ⟨⟨cellB, hcB, hoB, hclB⟩, cC, hfc, kB, hkB, -⟩ := hrc0
  cases hfc.symm.trans hclB
  intro T hT X
  obtain ⟨v, vm₁, ⟨U', l2, c2, s2⟩, hW₁, X', ⟨g', mk, t, L, e1, e2, hq, h1, hL2, h2, h3⟩, st⟩ := X.interfaceBackD hx (xi := x) (C := C) ho hl1 (va_any rfl hF.1) (va_any rfl hF.2.1) (show (Cond.landsInDefault C x y).before args s = true from hL) hinst (va_any rfl hF.2.2.1) (va_any rfl hF.2.2.2.2) ⟨hd.1, hd.2.1⟩ hK hfc hkB (b := b) ⟨cellB, by rw [hT]; exact hcB, rfl, hoB⟩ (g := F0 m pc ls st0) rfl (hls.trans hml.symm) (s₀ := T.setTop (F0 m pc ls st0)) (Steps.refl _) (argsL := As) (rest := rest) (fun sig h => hn.trans (hlen sig h)) hst (lv_room hR) (by rw [hb]; exact hdg)
      (fun vm₁ hW₁ => ⟨hcs.1, hcs.2, zk_preP hX hrc (T.setVm vm₁) hT hW₁⟩)
  dsimp only [Pt.U, Pt.locs, Pt.cells, Pt.slots] at X' e1 e2 h1 h2 h3 st
  subst h1; subst h2; subst h3
  obtain ⟨hv, hbb, hz, hk⟩ := hq
  cases hv
  have h0 : ((T.setVm vm₁).calling g' mk (Value.ref b :: As).toArray).heap = H := hT
  rw [h0] at hz hk
  obtain ⟨t2, a1, b1⟩ := kk U'.heap (locs ++ L) (fun q h1 => by rw [e1]; exact hk q h1 (fun z => z))
    ⟨Nat.le_trans hS.1 (by rw [e1]; exact hz), fun q h1 h2 => by rw [e1, hk q (Nat.lt_of_lt_of_le h1 hS.1) (fun z => z)]; exact hS.2.1 q h1 h2, fun q hq => by
      rcases List.mem_append.mp hq with h | h
      · exact hS.2.2 q h
      · exact (hL2 q h).elim⟩ U' rfl X'
  exact ⟨t2, st.trans a1, b1⟩
end ZPER2
abbrev zw_X4_fades_rm : Room := { frames := 3, cells := 0, slots := 0, locals := 100 }
theorem zw_X4_fades (l : Launch) {C : String} {b : Nat} : zk_MP l yX4_fades (ws_ yX4_fades cX4_fades 1 (some .int)) zw_X4_fades_rm C b [.ref b] (2) := by
  refine zk_startP (by decide +kernel) (Nat.le_of_ble_eq_true rfl) (fun p e s m below meth c H locs ls hx hb hr hlk hml hown hts hX hrc hS hl => ?_)
  have hl : lv_has ls 1 [(0, .ref b)] := hl
  have hown : s.vm.findClass RX4 = some m.cls := hown
  refine lv_aload_n hx hb dX4_fades_0 rfl (lv_at hl 0 rfl) ?_
  have hli : va_Nw (.landsInDefault "DareFord$Person" ⟨"DareFord$Person", "fades", "()I"⟩ zk_yfn) s := hX.2.2.2.2.2.1 ("DareFord$Person", ⟨"DareFord$Person", "fades", "()I"⟩) (by decide +kernel)
  refine zk_callSD (xc := "DareFord$Person") (y := zk_yfn) (As := []) (rest := []) (n := 0) ⟨hx, hb, hml, hown, hts⟩ (zw_X8_fades l) (va_Nw.use (A := _) rfl hX.2.2.2.2.2.2.1) (va_Nw.use (A := _) rfl hX.2.2.2.2.2.2.2) (hts _ q497) hli (hts _ q723) (hts _ q1428) (hts _ q725) (pay_in hts (lw_meth q725)) List.mem_cons_self rfl rfl (by decide +kernel) ⟨Nat.le_of_ble_eq_true rfl, Nat.le_of_ble_eq_true rfl⟩ hX hrc hS rfl hl.1 rfl (Nat.le_of_ble_eq_true rfl) dX4_fades_1 ⟨Nat.le_of_ble_eq_true rfl, Nat.le_of_ble_eq_true rfl⟩ (fun H locs hrc hS => ?_)
  refine zk_iconst hx hb dX4_fades_4 ?_
  refine zk_iadd hx hb dX4_fades_5 ?_
  exact zk_iret hx hb hr hlk rfl (fun _ _ => trivial) hS dX4_fades_6
theorem zc_kind {p : Program} {l : Launch} {e : Env} {R : Room} {s : State} {m : MethodId} {args : Array Value} {below : List Frame} {meth : Method} {c : Code} {H : Heap} {locs : List Loc} {cells slots : Nat} {Q : State → Prop} {cc : ByteArray} {pc : Nat} {ls : Array Slot} {rest : List Value} {D : va_G} {A : Nat → Prop} {H0 : Heap} {π σ : ZS} {o nL : Nat} {b : Nat → Nat → Nat} {dA : Nat → ClassId} {α : Type} {X : Option α} {r : α} {i : Int} (hexec : p.tables.exec = Jvm.exec) (hb : c.code = cc) (hml : c.maxLocals = nL) (hown : s.vm.findClass RX0 = some m.cls) (hts : ∀ w ∈ lw_all, w.before args s = true) (hKX : zk_KX D zk_cl (zk_ty dA) s) (hP : va_P D zk_cl (zc_P o b dA π σ) H) (hS : va_S A H0 H locs) (hls : ls.size = nL) (hR : (rest.map fun v => v.category).sum ≤ 8) (hfr : 6 ≤ R.frames) (hlo : 300 ≤ R.locals) (hcs : cells ≤ R.cells ∧ slots ≤ R.slots) (hf : zk_g ((0 ≤ i ∧ i < 6) ∧ (0 ≤ π 8 i ∧ π 8 i ≤ 5)) X = some r) (hdg : decode cc pc = .ok (.invokevirtual 205, 3))
    (kk : X = some r → ∀ (H1 : Heap) (locs1 : List Loc), va_P D zk_cl (zc_P o b dA π σ) H1 → va_S A H0 H1 locs1 → W p l e R s m args below meth c H1 locs1 cells slots Q (F0 m (pc + 3) ls (zk_I (π 8 i) :: rest))) : W p l e R s m args below meth c H locs cells slots Q (F0 m pc ls (.ref (b 400 i.toNat) :: rest)) := by
  obtain ⟨hg, hf⟩ := zk_gs hf
  have h6 : π 8 i = 0 ∨ π 8 i = 1 ∨ π 8 i = 2 ∨ π 8 i = 3 ∨ π 8 i = 4 ∨ π 8 i = 5 := by omega
  rcases h6 with hk | hk | hk | hk | hk | hk
  · have hrc := zc_per (q := (RX2, TX2, 2)) 0 hKX hP hg hk rfl
    exact zk_callU (As := []) (rest := rest) ⟨hexec, hb, hml, hown, hts⟩ (zw_X2_kind l) (va_cwO 0 hts (zk_lwO q548 q551 q549 q550 q549 q99 q559) rfl rfl rfl q559 (by decide +kernel) ⟨Nat.le_trans (Nat.le_of_ble_eq_true rfl : zw_X2_kind_rm.frames + 1 ≤ 6) hfr, Nat.le_trans (Nat.le_of_ble_eq_true rfl : 8 + (1 + 11) + zw_X2_kind_rm.locals ≤ 300) hlo⟩) hKX.2 hrc hS rfl hls rfl hR hdg hcs (fun H1 locs1 hq hS1 => by have h2 := kk hf H1 locs1 (hP.kept (fun k q hk => hq q.1 (hP k q hk).lt)) hS1; rw [hk] at h2; exact h2)
  · have hrc := zc_per (q := (RX3, TX3, 3)) 1 hKX hP hg hk rfl
    exact zk_callU (As := []) (rest := rest) ⟨hexec, hb, hml, hown, hts⟩ (zw_X3_kind l) (va_cwO 0 hts (zk_lwO q548 q551 q549 q561 q562 q100 q563) rfl rfl rfl q559 (by decide +kernel) ⟨Nat.le_trans (Nat.le_of_ble_eq_true rfl : zw_X3_kind_rm.frames + 1 ≤ 6) hfr, Nat.le_trans (Nat.le_of_ble_eq_true rfl : 8 + (1 + 11) + zw_X3_kind_rm.locals ≤ 300) hlo⟩) hKX.2 hrc hS rfl hls rfl hR hdg hcs (fun H1 locs1 hq hS1 => by have h2 := kk hf H1 locs1 (hP.kept (fun k q hk => hq q.1 (hP k q hk).lt)) hS1; rw [hk] at h2; exact h2)
  · have hrc := zc_per (q := (RX4, TX4, 3)) 2 hKX hP hg hk rfl
    exact zk_callU (As := []) (rest := rest) ⟨hexec, hb, hml, hown, hts⟩ (zw_X4_kind l) (va_cwO 0 hts (zk_lwO q548 q551 q549 q565 q566 q101 q567) rfl rfl rfl q559 (by decide +kernel) ⟨Nat.le_trans (Nat.le_of_ble_eq_true rfl : zw_X4_kind_rm.frames + 1 ≤ 6) hfr, Nat.le_trans (Nat.le_of_ble_eq_true rfl : 8 + (1 + 11) + zw_X4_kind_rm.locals ≤ 300) hlo⟩) hKX.2 hrc hS rfl hls rfl hR hdg hcs (fun H1 locs1 hq hS1 => by have h2 := kk hf H1 locs1 (hP.kept (fun k q hk => hq q.1 (hP k q hk).lt)) hS1; rw [hk] at h2; exact h2)
  · have hrc := zc_per (q := (RX5, TX5, 3)) 3 hKX hP hg hk rfl
    exact zk_callU (As := []) (rest := rest) ⟨hexec, hb, hml, hown, hts⟩ (zw_X5_kind l) (va_cwO 0 hts (zk_lwO q548 q551 q549 q560 q556 q102 q557) rfl rfl rfl q559 (by decide +kernel) ⟨Nat.le_trans (Nat.le_of_ble_eq_true rfl : zw_X5_kind_rm.frames + 1 ≤ 6) hfr, Nat.le_trans (Nat.le_of_ble_eq_true rfl : 8 + (1 + 11) + zw_X5_kind_rm.locals ≤ 300) hlo⟩) hKX.2 hrc hS rfl hls rfl hR hdg hcs (fun H1 locs1 hq hS1 => by have h2 := kk hf H1 locs1 (hP.kept (fun k q hk => hq q.1 (hP k q hk).lt)) hS1; rw [hk] at h2; exact h2)
  · have hrc := zc_per (q := (RX6, TX6, 4)) 4 hKX hP hg hk rfl
    exact zk_callU (As := []) (rest := rest) ⟨hexec, hb, hml, hown, hts⟩ (zw_X6_kind l) (va_cwO 0 hts (zk_lwO q548 q551 q549 q552 q553 q103 q554) rfl rfl rfl q559 (by decide +kernel) ⟨Nat.le_trans (Nat.le_of_ble_eq_true rfl : zw_X6_kind_rm.frames + 1 ≤ 6) hfr, Nat.le_trans (Nat.le_of_ble_eq_true rfl : 8 + (1 + 11) + zw_X6_kind_rm.locals ≤ 300) hlo⟩) hKX.2 hrc hS rfl hls rfl hR hdg hcs (fun H1 locs1 hq hS1 => by have h2 := kk hf H1 locs1 (hP.kept (fun k q hk => hq q.1 (hP k q hk).lt)) hS1; rw [hk] at h2; exact h2)
  · have hrc := zc_per (q := (RX7, TX7, 4)) 5 hKX hP hg hk rfl
    exact zk_callU (As := []) (rest := rest) ⟨hexec, hb, hml, hown, hts⟩ (zw_X7_kind l) (va_cwO 0 hts (zk_lwO q548 q551 q549 q569 q570 q104 q571) rfl rfl rfl q559 (by decide +kernel) ⟨Nat.le_trans (Nat.le_of_ble_eq_true rfl : zw_X7_kind_rm.frames + 1 ≤ 6) hfr, Nat.le_trans (Nat.le_of_ble_eq_true rfl : 8 + (1 + 11) + zw_X7_kind_rm.locals ≤ 300) hlo⟩) hKX.2 hrc hS rfl hls rfl hR hdg hcs (fun H1 locs1 hq hS1 => by have h2 := kk hf H1 locs1 (hP.kept (fun k q hk => hq q.1 (hP k q hk).lt)) hS1; rw [hk] at h2; exact h2)
abbrev zw_X0_daredBy_rm : Room := { frames := 8, cells := 0, slots := 0, locals := 400 }
theorem zw_X0_daredBy (l : Launch) {D : va_G} {o : Nat} {b : Nat → Nat → Nat} {dA : Nat → ClassId} (p0 p1 p2 p3 : Int) (π : ZS) (σ : ZS) (r : Int) (hf : zc_daredBy p0 p1 p2 p3 π σ = some r) : zk_MR l yX0_daredBy (ws_ yX0_daredBy cX0_daredBy 5 (Option.some Jvm.ClassFile.FieldType.int)) zw_X0_daredBy_rm D zk_cl (zk_ty dA) [.ref (b 400 p0.toNat), zk_I p1, zk_I p2, zk_I p3] (zc_P o b dA π σ) (some (zk_I r)) := by
  refine zk_startW (by decide +kernel) (Nat.le_of_ble_eq_true rfl) (fun p e s m below meth c H locs ls hx hb hr hlk hml hown hts hKX hP hS hl => ?_)
  have hl : lv_has ls 5 [(0, .ref (b 400 p0.toNat)), (1, zk_I p1), (2, zk_I p2), (3, zk_I p3)] := hl
  have hown : s.vm.findClass RX0 = some m.cls := hown
  obtain ⟨hg, hf⟩ := zk_gs (show zk_g ((0 ≤ p0 ∧ p0 < 6) ∧ (0 ≤ π 8 p0 ∧ π 8 p0 ≤ 5)) (zc_daresK (π 8 p0) p1 p2 p3) = some r from hf)
  refine lv_aload_n hx hb dX0_daredBy_0 rfl (lv_at hl 0 rfl) ?_
  refine lv_astore (lv' := [(4, .ref (b 400 p0.toNat)), (0, .ref (b 400 p0.toNat)), (1, zk_I p1), (2, zk_I p2), (3, zk_I p3)]) hx hb dX0_daredBy_1 hl (by simp) rfl (fun ls hl => ?_)
  refine lv_aload hx hb dX0_daredBy_3 (lv_at hl 0 rfl) ?_
  refine zk_iloadn hx hb dX0_daredBy_5 rfl (lv_at hl 2 rfl) ?_
  refine zk_iloadn hx hb dX0_daredBy_6 rfl (lv_at hl 3 rfl) ?_
  refine zk_iloadn hx hb dX0_daredBy_7 rfl (lv_at hl 4 rfl) ?_
  have h6 : π 8 p0 = 0 ∨ π 8 p0 = 1 ∨ π 8 p0 = 2 ∨ π 8 p0 = 3 ∨ π 8 p0 = 4 ∨ π 8 p0 = 5 := by omega
  rcases h6 with hk | hk | hk | hk | hk | hk
  · have hrc := zc_per (q := (RX2, TX2, 2)) 0 hKX hP hg hk rfl
    rw [hk] at hf
    have hf : some p1 = some r := hf
    cases Option.some.inj hf
    exact zk_callF (x := zk_ydn) (As := [zk_I p1, zk_I p2, zk_I p3]) (rest := []) ⟨hx, hb, hml, hown, hts⟩ (zw_X2_dares l p1 p2 p3) (va_cwF 3 hts (zk_lwF q588 q624 q600 q99 q601) rfl rfl rfl (zk_fw hKX.2 (by decide +kernel : ("DareFord$Person", zk_ydn, (⟨"DareFord$Person", "dares", "(III)I"⟩ : MethodName)) ∈ zk_fws)) (by decide +kernel) ⟨Nat.le_of_ble_eq_true rfl, Nat.le_of_ble_eq_true rfl⟩) hKX.2 hrc hS rfl hl.1 rfl (Nat.le_of_ble_eq_true rfl) dX0_daredBy_8 ⟨Nat.le_of_ble_eq_true rfl, Nat.le_of_ble_eq_true rfl⟩ (fun H1 locs1 hq hS1 => zk_iret hx hb hr hlk rfl (fun _ _ => trivial) hS1 dX0_daredBy_13)
  · have hrc := zc_per (q := (RX3, TX3, 3)) 1 hKX hP hg hk rfl
    rw [hk] at hf
    have hf : zc_d1 p1 p2 = some r := hf
    exact zk_callF (x := zk_ydn) (As := [zk_I p1, zk_I p2, zk_I p3]) (rest := []) ⟨hx, hb, hml, hown, hts⟩ (zw_X3_dares l p1 p2 p3 r hf) (va_cwF 3 hts (zk_lwF q588 q610 q612 q100 q614) rfl rfl rfl (zk_fw hKX.2 (by decide +kernel : ("DareFord$Drunk", zk_ydn, (⟨"DareFord$Drunk", "dares", "(III)I"⟩ : MethodName)) ∈ zk_fws)) (by decide +kernel) ⟨Nat.le_of_ble_eq_true rfl, Nat.le_of_ble_eq_true rfl⟩) hKX.2 hrc hS rfl hl.1 rfl (Nat.le_of_ble_eq_true rfl) dX0_daredBy_8 ⟨Nat.le_of_ble_eq_true rfl, Nat.le_of_ble_eq_true rfl⟩ (fun H1 locs1 hq hS1 => zk_iret hx hb hr hlk rfl (fun _ _ => trivial) hS1 dX0_daredBy_13)
  · have hrc := zc_per (q := (RX4, TX4, 3)) 2 hKX hP hg hk rfl
    rw [hk] at hf
    have hf : zc_daresF p1 = some r := hf
    exact zk_callF (x := zk_ydn) (As := [zk_I p1, zk_I p2, zk_I p3]) (rest := []) ⟨hx, hb, hml, hown, hts⟩ (zw_X4_dares l p1 p2 p3 r hf) (va_cwF 3 hts (zk_lwF q588 q617 q619 q101 q621) rfl rfl rfl (zk_fw hKX.2 (by decide +kernel : ("DareFord$Fearful", zk_ydn, (⟨"DareFord$Fearful", "dares", "(III)I"⟩ : MethodName)) ∈ zk_fws)) (by decide +kernel) ⟨Nat.le_of_ble_eq_true rfl, Nat.le_of_ble_eq_true rfl⟩) hKX.2 hrc hS rfl hl.1 rfl (Nat.le_of_ble_eq_true rfl) dX0_daredBy_8 ⟨Nat.le_of_ble_eq_true rfl, Nat.le_of_ble_eq_true rfl⟩ (fun H1 locs1 hq hS1 => zk_iret hx hb hr hlk rfl (fun _ _ => trivial) hS1 dX0_daredBy_13)
  · have hrc := zc_per (q := (RX5, TX5, 3)) 3 hKX hP hg hk rfl
    rw [hk] at hf
    have hf : some p1 = some r := hf
    cases Option.some.inj hf
    exact zk_callF (x := zk_ydn) (As := [zk_I p1, zk_I p2, zk_I p3]) (rest := []) ⟨hx, hb, hml, hown, hts⟩ (zw_X2_dares l p1 p2 p3) (va_cwF 3 hts (zk_lwF q588 q606 q600 q99 q601) rfl rfl rfl (zk_fw hKX.2 (by decide +kernel : ("DareFord$Bred", zk_ydn, (⟨"DareFord$Person", "dares", "(III)I"⟩ : MethodName)) ∈ zk_fws)) (by decide +kernel) ⟨Nat.le_of_ble_eq_true rfl, Nat.le_of_ble_eq_true rfl⟩) hKX.2 hrc hS rfl hl.1 rfl (Nat.le_of_ble_eq_true rfl) dX0_daredBy_8 ⟨Nat.le_of_ble_eq_true rfl, Nat.le_of_ble_eq_true rfl⟩ (fun H1 locs1 hq hS1 => zk_iret hx hb hr hlk rfl (fun _ _ => trivial) hS1 dX0_daredBy_13)
  · have hrc := zc_per (q := (RX6, TX6, 4)) 4 hKX hP hg hk rfl
    rw [hk] at hf
    have hf : zc_d4 p1 p3 = some r := hf
    exact zk_callF (x := zk_ydn) (As := [zk_I p1, zk_I p2, zk_I p3]) (rest := []) ⟨hx, hb, hml, hown, hts⟩ (zw_X6_dares l p1 p2 p3 r hf) (va_cwF 3 hts (zk_lwF q588 q592 q594 q103 q596) rfl rfl rfl (zk_fw hKX.2 (by decide +kernel : ("DareFord$Bet", zk_ydn, (⟨"DareFord$Bet", "dares", "(III)I"⟩ : MethodName)) ∈ zk_fws)) (by decide +kernel) ⟨Nat.le_of_ble_eq_true rfl, Nat.le_of_ble_eq_true rfl⟩) hKX.2 hrc hS rfl hl.1 rfl (Nat.le_of_ble_eq_true rfl) dX0_daredBy_8 ⟨Nat.le_of_ble_eq_true rfl, Nat.le_of_ble_eq_true rfl⟩ (fun H1 locs1 hq hS1 => zk_iret hx hb hr hlk rfl (fun _ _ => trivial) hS1 dX0_daredBy_13)
  · have hrc := zc_per (q := (RX7, TX7, 4)) 5 hKX hP hg hk rfl
    rw [hk] at hf
    have hf : zc_d5 p1 = some r := hf
    exact zk_callF (x := zk_ydn) (As := [zk_I p1, zk_I p2, zk_I p3]) (rest := []) ⟨hx, hb, hml, hown, hts⟩ (zw_X7_dares l p1 p2 p3 r hf) (va_cwF 3 hts (zk_lwF q588 q627 q629 q104 q631) rfl rfl rfl (zk_fw hKX.2 (by decide +kernel : ("DareFord$Quiet", zk_ydn, (⟨"DareFord$Quiet", "dares", "(III)I"⟩ : MethodName)) ∈ zk_fws)) (by decide +kernel) ⟨Nat.le_of_ble_eq_true rfl, Nat.le_of_ble_eq_true rfl⟩) hKX.2 hrc hS rfl hl.1 rfl (Nat.le_of_ble_eq_true rfl) dX0_daredBy_8 ⟨Nat.le_of_ble_eq_true rfl, Nat.le_of_ble_eq_true rfl⟩ (fun H1 locs1 hq hS1 => zk_iret hx hb hr hlk rfl (fun _ _ => trivial) hS1 dX0_daredBy_13)
abbrev zw_X0_fadedBy_rm : Room := { frames := 8, cells := 0, slots := 0, locals := 400 }
theorem zw_X0_fadedBy (l : Launch) {D : va_G} {o : Nat} {b : Nat → Nat → Nat} {dA : Nat → ClassId} (p0 : Int) (π : ZS) (σ : ZS) (r : Int) (hf : zc_fadedBy p0 π σ = some r) : zk_MR l yX0_fadedBy (ws_ yX0_fadedBy cX0_fadedBy 2 (Option.some Jvm.ClassFile.FieldType.int)) zw_X0_fadedBy_rm D zk_cl (zk_ty dA) [.ref (b 400 p0.toNat)] (zc_P o b dA π σ) (some (zk_I r)) := by
  refine zk_startW (by decide +kernel) (Nat.le_of_ble_eq_true rfl) (fun p e s m below meth c H locs ls hx hb hr hlk hml hown hts hKX hP hS hl => ?_)
  have hl : lv_has ls 2 [(0, .ref (b 400 p0.toNat))] := hl
  have hown : s.vm.findClass RX0 = some m.cls := hown
  obtain ⟨hg, hf⟩ := zk_gs (show zk_g ((0 ≤ p0 ∧ p0 < 6) ∧ (0 ≤ π 8 p0 ∧ π 8 p0 ≤ 5)) (some (if π 8 p0 = 2 ∨ π 8 p0 = 5 then (2 : Int) else if π 8 p0 = 3 ∨ π 8 p0 = 4 then 0 else 1)) = some r from hf)
  have hf := Option.some.inj hf
  refine lv_aload_n hx hb dX0_fadedBy_0 rfl (lv_at hl 0 rfl) ?_
  refine lv_astore_n (lv' := [(1, .ref (b 400 p0.toNat)), (0, .ref (b 400 p0.toNat))]) hx hb dX0_fadedBy_1 rfl hl (by simp) rfl (fun ls hl => ?_)
  refine lv_aload_n hx hb dX0_fadedBy_2 rfl (lv_at hl 0 rfl) ?_
  have h6 : π 8 p0 = 0 ∨ π 8 p0 = 1 ∨ π 8 p0 = 2 ∨ π 8 p0 = 3 ∨ π 8 p0 = 4 ∨ π 8 p0 = 5 := by omega
  rcases h6 with hk | hk | hk | hk | hk | hk
  · have hrc := zc_per (q := (RX2, TX2, 2)) 0 hKX hP hg hk rfl
    have hr1 : (1 : Int) = r := by rw [hk] at hf; exact hf
    subst hr1
    exact zk_callFD (x := zk_yfn) (y := zk_yfn) (As := []) (rest := []) (n := 0) ⟨hx, hb, hml, hown, hts⟩ (zw_X8_fades l) (hts _ q712) (zk_fw hKX.2 (by decide +kernel : ("DareFord$Person", zk_yfn, (⟨"DareFord$Daring", "fades", "()I"⟩ : MethodName)) ∈ zk_fws)) (zk_li hKX.2 (by decide +kernel : ("DareFord$Person", zk_yfn) ∈ zk_lid)) (hts _ q723) (hts _ q1428) (pay_in hts (lw_meth q725)) List.mem_cons_self rfl rfl (by decide +kernel) ⟨Nat.le_of_ble_eq_true rfl, Nat.le_of_ble_eq_true rfl⟩ hKX.2 hrc hS rfl hl.1 rfl (Nat.le_of_ble_eq_true rfl) dX0_fadedBy_3 ⟨Nat.le_of_ble_eq_true rfl, Nat.le_of_ble_eq_true rfl⟩ (fun H1 locs1 hq hS1 => zk_iret hx hb hr hlk rfl (fun _ _ => trivial) hS1 dX0_fadedBy_8)
  · have hrc := zc_per (q := (RX3, TX3, 3)) 1 hKX hP hg hk rfl
    have hr1 : (1 : Int) = r := by rw [hk] at hf; exact hf
    subst hr1
    exact zk_callFD (x := zk_yfn) (y := zk_yfn) (As := []) (rest := []) (n := 0) ⟨hx, hb, hml, hown, hts⟩ (zw_X8_fades l) (hts _ q712) (zk_fw hKX.2 (by decide +kernel : ("DareFord$Drunk", zk_yfn, (⟨"DareFord$Daring", "fades", "()I"⟩ : MethodName)) ∈ zk_fws)) (zk_li hKX.2 (by decide +kernel : ("DareFord$Drunk", zk_yfn) ∈ zk_lid)) (hts _ q723) (hts _ q1428) (pay_in hts (lw_meth q725)) List.mem_cons_self rfl rfl (by decide +kernel) ⟨Nat.le_of_ble_eq_true rfl, Nat.le_of_ble_eq_true rfl⟩ hKX.2 hrc hS rfl hl.1 rfl (Nat.le_of_ble_eq_true rfl) dX0_fadedBy_3 ⟨Nat.le_of_ble_eq_true rfl, Nat.le_of_ble_eq_true rfl⟩ (fun H1 locs1 hq hS1 => zk_iret hx hb hr hlk rfl (fun _ _ => trivial) hS1 dX0_fadedBy_8)
  · have hrc := zc_per (q := (RX4, TX4, 3)) 2 hKX hP hg hk rfl
    have hr1 : (2 : Int) = r := by rw [hk] at hf; exact hf
    subst hr1
    exact zk_callF (x := zk_yfn) (As := []) (rest := []) ⟨hx, hb, hml, hown, hts⟩ (zw_X4_fades l) (va_cwF 0 hts (zk_lwF q712 q726 q728 q101 q730) rfl rfl rfl (zk_fw hKX.2 (by decide +kernel : ("DareFord$Fearful", zk_yfn, (⟨"DareFord$Fearful", "fades", "()I"⟩ : MethodName)) ∈ zk_fws)) (by decide +kernel) ⟨Nat.le_of_ble_eq_true rfl, Nat.le_of_ble_eq_true rfl⟩) hKX.2 hrc hS rfl hl.1 rfl (Nat.le_of_ble_eq_true rfl) dX0_fadedBy_3 ⟨Nat.le_of_ble_eq_true rfl, Nat.le_of_ble_eq_true rfl⟩ (fun H1 locs1 hq hS1 => zk_iret hx hb hr hlk rfl (fun _ _ => trivial) hS1 dX0_fadedBy_8)
  · have hrc := zc_per (q := (RX5, TX5, 3)) 3 hKX hP hg hk rfl
    have hr1 : (0 : Int) = r := by rw [hk] at hf; exact hf
    subst hr1
    exact zk_callF (x := zk_yfn) (As := []) (rest := []) ⟨hx, hb, hml, hown, hts⟩ (zw_X5_fades l) (va_cwF 0 hts (zk_lwF q712 q720 q717 q102 q719) rfl rfl rfl (zk_fw hKX.2 (by decide +kernel : ("DareFord$Bred", zk_yfn, (⟨"DareFord$Bred", "fades", "()I"⟩ : MethodName)) ∈ zk_fws)) (by decide +kernel) ⟨Nat.le_of_ble_eq_true rfl, Nat.le_of_ble_eq_true rfl⟩) hKX.2 hrc hS rfl hl.1 rfl (Nat.le_of_ble_eq_true rfl) dX0_fadedBy_3 ⟨Nat.le_of_ble_eq_true rfl, Nat.le_of_ble_eq_true rfl⟩ (fun H1 locs1 hq hS1 => zk_iret hx hb hr hlk rfl (fun _ _ => trivial) hS1 dX0_fadedBy_8)
  · have hrc := zc_per (q := (RX6, TX6, 4)) 4 hKX hP hg hk rfl
    have hr1 : (0 : Int) = r := by rw [hk] at hf; exact hf
    subst hr1
    exact zk_callF (x := zk_yfn) (As := []) (rest := []) ⟨hx, hb, hml, hown, hts⟩ (zw_X5_fades l) (va_cwF 0 hts (zk_lwF q712 q715 q717 q102 q719) rfl rfl rfl (zk_fw hKX.2 (by decide +kernel : ("DareFord$Bet", zk_yfn, (⟨"DareFord$Bred", "fades", "()I"⟩ : MethodName)) ∈ zk_fws)) (by decide +kernel) ⟨Nat.le_of_ble_eq_true rfl, Nat.le_of_ble_eq_true rfl⟩) hKX.2 hrc hS rfl hl.1 rfl (Nat.le_of_ble_eq_true rfl) dX0_fadedBy_3 ⟨Nat.le_of_ble_eq_true rfl, Nat.le_of_ble_eq_true rfl⟩ (fun H1 locs1 hq hS1 => zk_iret hx hb hr hlk rfl (fun _ _ => trivial) hS1 dX0_fadedBy_8)
  · have hrc := zc_per (q := (RX7, TX7, 4)) 5 hKX hP hg hk rfl
    have hr1 : (2 : Int) = r := by rw [hk] at hf; exact hf
    subst hr1
    exact zk_callF (x := zk_yfn) (As := []) (rest := []) ⟨hx, hb, hml, hown, hts⟩ (zw_X4_fades l) (va_cwF 0 hts (zk_lwF q712 q732 q728 q101 q730) rfl rfl rfl (zk_fw hKX.2 (by decide +kernel : ("DareFord$Quiet", zk_yfn, (⟨"DareFord$Fearful", "fades", "()I"⟩ : MethodName)) ∈ zk_fws)) (by decide +kernel) ⟨Nat.le_of_ble_eq_true rfl, Nat.le_of_ble_eq_true rfl⟩) hKX.2 hrc hS rfl hl.1 rfl (Nat.le_of_ble_eq_true rfl) dX0_fadedBy_3 ⟨Nat.le_of_ble_eq_true rfl, Nat.le_of_ble_eq_true rfl⟩ (fun H1 locs1 hq hS1 => zk_iret hx hb hr hlk rfl (fun _ _ => trivial) hS1 dX0_fadedBy_8)
theorem zc_inst2 {p : Program} {l : Launch} {e : Env} {R : Room} {s : State} {m : MethodId} {args : Array Value} {below : List Frame} {meth : Method} {c : Code} {H : Heap} {locs : List Loc} {cells slots : Nat} {Q : State → Prop} {cc : ByteArray} {pc : Nat} {ls : Array Slot} {rest : List Value} {D : va_G} {π σ : ZS} {o : Nat} {b : Nat → Nat → Nat} {dA : Nat → ClassId} {α : Type} {X : Option α} {r : α} {i : Int} (hexec : p.tables.exec = Jvm.exec) (hb : c.code = cc) (hts : ∀ w ∈ lw_all, w.before args s = true) (hown : s.vm.findClass RX0 = some m.cls) (hKX : zk_KX D zk_cl (zk_ty dA) s) (hP : va_P D zk_cl (zc_P o b dA π σ) H) (hf : zk_g ((0 ≤ i ∧ i < 6) ∧ (0 ≤ π 8 i ∧ π 8 i ≤ 5)) X = some r) (hdg : decode cc pc = .ok (.instanceof 104, 3))
    (kk : X = some r → W p l e R s m args below meth c H locs cells slots Q (F0 m (pc + 3) ls (zk_I (if π 8 i = 2 ∨ π 8 i = 5 then 1 else 0) :: rest))) : W p l e R s m args below meth c H locs cells slots Q (F0 m pc ls (.ref (b 400 i.toNat) :: rest)) := by
  obtain ⟨hg, hf⟩ := zk_gs hf
  have kk := kk hf
  have h6 : π 8 i = 0 ∨ π 8 i = 1 ∨ π 8 i = 2 ∨ π 8 i = 3 ∨ π 8 i = 4 ∨ π 8 i = 5 := by omega
  rcases h6 with hk | hk | hk | hk | hk | hk
  · have hrc := zc_per (q := (RX2, TX2, 2)) 0 hKX hP hg hk rfl
    rw [hk] at kk
    exact va_instNo (C := "DareFord$Person") hexec hb hown (hts _ q486) (hKX.2.2.2.2.2.1 ("DareFord$Person", "DareFord$Fearful") (by decide +kernel)) hrc.1 hdg kk
  · have hrc := zc_per (q := (RX3, TX3, 3)) 1 hKX hP hg hk rfl
    rw [hk] at kk
    exact va_instNo (C := "DareFord$Drunk") hexec hb hown (hts _ q486) (hKX.2.2.2.2.2.1 ("DareFord$Drunk", "DareFord$Fearful") (by decide +kernel)) hrc.1 hdg kk
  · have hrc := zc_per (q := (RX4, TX4, 3)) 2 hKX hP hg hk rfl
    rw [hk] at kk
    obtain ⟨cC, hat⟩ := hrc.2
    exact va_instS hexec hb hown (hts _ q486) hat hrc.1 hdg kk
  · have hrc := zc_per (q := (RX5, TX5, 3)) 3 hKX hP hg hk rfl
    rw [hk] at kk
    exact va_instNo (C := "DareFord$Bred") hexec hb hown (hts _ q486) (hKX.2.2.2.2.2.1 ("DareFord$Bred", "DareFord$Fearful") (by decide +kernel)) hrc.1 hdg kk
  · have hrc := zc_per (q := (RX6, TX6, 4)) 4 hKX hP hg hk rfl
    rw [hk] at kk
    exact va_instNo (C := "DareFord$Bet") hexec hb hown (hts _ q486) (hKX.2.2.2.2.2.1 ("DareFord$Bet", "DareFord$Fearful") (by decide +kernel)) hrc.1 hdg kk
  · have hrc := zc_per (q := (RX7, TX7, 4)) 5 hKX hP hg hk rfl
    rw [hk] at kk
    exact va_instY (C := "DareFord$Quiet") hexec hb hown (hts _ q486) (hKX.2.2.1 ("DareFord$Quiet", "DareFord$Fearful") (by decide +kernel)) hrc.1 hdg kk
theorem zc_inst3 {p : Program} {l : Launch} {e : Env} {R : Room} {s : State} {m : MethodId} {args : Array Value} {below : List Frame} {meth : Method} {c : Code} {H : Heap} {locs : List Loc} {cells slots : Nat} {Q : State → Prop} {cc : ByteArray} {pc : Nat} {ls : Array Slot} {rest : List Value} {D : va_G} {π σ : ZS} {o : Nat} {b : Nat → Nat → Nat} {dA : Nat → ClassId} {α : Type} {X : Option α} {r : α} {i : Int} (hexec : p.tables.exec = Jvm.exec) (hb : c.code = cc) (hts : ∀ w ∈ lw_all, w.before args s = true) (hown : s.vm.findClass RX0 = some m.cls) (hKX : zk_KX D zk_cl (zk_ty dA) s) (hP : va_P D zk_cl (zc_P o b dA π σ) H) (hf : zk_g ((0 ≤ i ∧ i < 6) ∧ (0 ≤ π 8 i ∧ π 8 i ≤ 5)) X = some r) (hdg : decode cc pc = .ok (.instanceof 107, 3))
    (kk : X = some r → W p l e R s m args below meth c H locs cells slots Q (F0 m (pc + 3) ls (zk_I (if π 8 i = 3 ∨ π 8 i = 4 then 1 else 0) :: rest))) : W p l e R s m args below meth c H locs cells slots Q (F0 m pc ls (.ref (b 400 i.toNat) :: rest)) := by
  obtain ⟨hg, hf⟩ := zk_gs hf
  have kk := kk hf
  have h6 : π 8 i = 0 ∨ π 8 i = 1 ∨ π 8 i = 2 ∨ π 8 i = 3 ∨ π 8 i = 4 ∨ π 8 i = 5 := by omega
  rcases h6 with hk | hk | hk | hk | hk | hk
  · have hrc := zc_per (q := (RX2, TX2, 2)) 0 hKX hP hg hk rfl
    rw [hk] at kk
    exact va_instNo (C := "DareFord$Person") hexec hb hown (hts _ q498) (hKX.2.2.2.2.2.1 ("DareFord$Person", "DareFord$Bred") (by decide +kernel)) hrc.1 hdg kk
  · have hrc := zc_per (q := (RX3, TX3, 3)) 1 hKX hP hg hk rfl
    rw [hk] at kk
    exact va_instNo (C := "DareFord$Drunk") hexec hb hown (hts _ q498) (hKX.2.2.2.2.2.1 ("DareFord$Drunk", "DareFord$Bred") (by decide +kernel)) hrc.1 hdg kk
  · have hrc := zc_per (q := (RX4, TX4, 3)) 2 hKX hP hg hk rfl
    rw [hk] at kk
    exact va_instNo (C := "DareFord$Fearful") hexec hb hown (hts _ q498) (hKX.2.2.2.2.2.1 ("DareFord$Fearful", "DareFord$Bred") (by decide +kernel)) hrc.1 hdg kk
  · have hrc := zc_per (q := (RX5, TX5, 3)) 3 hKX hP hg hk rfl
    rw [hk] at kk
    obtain ⟨cC, hat⟩ := hrc.2
    exact va_instS hexec hb hown (hts _ q498) hat hrc.1 hdg kk
  · have hrc := zc_per (q := (RX6, TX6, 4)) 4 hKX hP hg hk rfl
    rw [hk] at kk
    exact va_instY (C := "DareFord$Bet") hexec hb hown (hts _ q498) (hKX.2.2.1 ("DareFord$Bet", "DareFord$Bred") (by decide +kernel)) hrc.1 hdg kk
  · have hrc := zc_per (q := (RX7, TX7, 4)) 5 hKX hP hg hk rfl
    rw [hk] at kk
    exact va_instNo (C := "DareFord$Quiet") hexec hb hown (hts _ q498) (hKX.2.2.2.2.2.1 ("DareFord$Quiet", "DareFord$Bred") (by decide +kernel)) hrc.1 hdg kk
