/-! people: what one dares, fades, is, whatever his class -/
def zk_rc (C : String) (b : Nat) (s : State) (H : Heap) : Prop := (∃ cellB : Cell, H[b]? = some cellB ∧ cellB.vm.isStatics = false ∧ s.vm.findClass C = some cellB.cls) ∧ ∃ cC : ClassId, ClassAt s C cC
theorem zk_rc.moved {C : String} {b : Nat} {u U : State} {H : Heap} (hvm : u.vm.Alike U.vm) (h : zk_rc C b u H) : zk_rc C b U H := by
  obtain ⟨⟨cell, h1, h2, h3⟩, cC, h4⟩ := h
  exact ⟨⟨cell, h1, h2, by rw [hvm.findClass]; exact h3⟩, cC, classAt_moved hvm h4⟩
theorem zk_rc.kept {C : String} {b : Nat} {s : State} {H H1 : Heap} (h : zk_rc C b s H) (hq : ∀ q : Nat, q < H.size → H1[q]? = H[q]?) : zk_rc C b s H1 := by
  obtain ⟨⟨cell, h1, h2⟩, h3⟩ := h
  exact ⟨⟨cell, (hq b (Array.getElem?_eq_some_iff.mp h1).1).trans h1, h2⟩, h3⟩
def zk_MP (l : Launch) (y : MethodName) (wd : List Cond) (rm : Room) (C : String) (b : Nat) (av : List Value) (r : Int) : Prop :=
  Met l y wd rm (va_Pc av (fun U => zk_rc C b U U.heap ∧ zk_X U)) (zk_Q (some (zk_I r)) (fun _ => True) (fun _ => False)) 0 0 (fun _ => False)
theorem zk_startP {l : Launch} {y : MethodName} {cc : ByteArray} {n : Nat} {ret : Option FieldType} {rm : Room} {vs : List Value} {C : String} {b : Nat} {Qc : Array Value → State → Outcome → State → Prop} {mc ms : Nat} {A : Nat → Prop} (hy : plainName y.cls = true) (hlen : (lg_sl vs).length ≤ n)
    (body : ∀ (p : Program) (e : Env) (s : State) (m : MethodId) (below : List Frame) (meth : Method) (c : Code) (H : Heap) (locs : List Loc) (ls : Array Slot), p.tables.exec = Jvm.exec → c.code = cc → meth.sig.returnType = ret → meth.locks = false → c.maxLocals = n → s.vm.findClass y.cls = some m.cls → (∀ w ∈ lw_all, w.before vs.toArray s = true) → zk_X s → zk_rc C b s H → va_S A s.heap H locs → lv_has ls n (lv_args 0 vs) →
      W p l e rm s m vs.toArray below meth c H locs 0 0 (MQ below Qc vs.toArray s mc ms A) (F0 m 0 ls [])) : Met l y (ws_ y cc n ret) rm (va_Pc vs (fun U => zk_rc C b U U.heap ∧ zk_X U)) Qc mc ms A := by
  refine Met.ofW (cc := cc) (maxL := n) (ret := ret) hy rfl ?_
  intro p e s m args below meth c s₁ BL hml hv
  obtain ⟨rfl, hrc, hX⟩ := hv
  have hts := atoms_spec (ws := ws_ y cc n ret) BL.pre
  rw [lg_entry_eq]
  exact body p e s m below meth c s.heap [] _ BL.exec BL.bytes BL.returns BL.notSynchronized hml (findClass_of_methodNamed BL.named) (fun w h => hts w (List.mem_cons_of_mem _ h)) hX hrc va_S.rf (lv_entry vs hlen)
theorem zk_lwSU {own : String} {idx : Nat} {y : MethodName} {b : ByteArray} {L : Nat} {r : Option FieldType} (h1 : Cond.methodLink own idx y ∈ lw_all) (h2 : Cond.sameMethod y.cls y.cls y.name y.desc ∈ lw_all) (h3 : Cond.superclass own y.cls ∈ lw_all) (h4 : Cond.instanceMethod y ∈ lw_all) (h5 : Cond.initialized y.cls ∈ lw_all) (h6 : Cond.code y b L r ∈ lw_all) : GoodIn lw_all (va_wsSU own idx y (ws_ y b L r)) := by
  refine lw_app ?_ (lw_meth h6)
  intro w hw
  simp only [List.mem_cons, List.not_mem_nil, or_false] at hw
  rcases hw with e | e | e | e | e
  · rw [e]; exact h1
  · rw [e]; exact h2
  · rw [e]; exact h3
  · rw [e]; exact h4
  · rw [e]; exact h5
section ZPERS
variable {p : Program} {l : Launch} {e : Env} {R : Room} {s : State} {m : MethodId} {args : Array Value} {below : List Frame} {meth : Method} {c : Code} {H : Heap} {locs : List Loc} {cells slots : Nat} {Q : State → Prop}
variable {cc : ByteArray} {pc : Nat} {ls : Array Slot} {rest st0 : List Value} {A : Nat → Prop} {H0 : Heap} {C : String} {b : Nat} {r : Int}
variable {y : MethodName} {bytes : ByteArray} {maxL nL n index : Nat} {ret : Option FieldType} {wd : List Cond} {rm : Room} {own : String} {As : List Value} {Ts : List Cond}
theorem zk_blindP {av : List Value} : FrameBlind (va_Pc av (fun U => zk_rc C b U U.heap ∧ zk_X U)) := fun ar U g mk q => ⟨q.1, q.2.1.moved (u := U) (U := U.calling g mk ar) (Vm.Alike.refl U.vm), zk_Xsame (u := U) (U := U.calling g mk ar) rfl q.2.2⟩
theorem zk_preP {av : List Value} (hX : zk_X s) (hrc : zk_rc C b s H) : ∀ U : State, U.heap = H → s.WarmedH U.vm → (va_Pc av (fun U => zk_rc C b U U.heap ∧ zk_X U)) av.toArray U := fun U hU hW => ⟨rfl, by rw [hU]; exact hrc.moved hW.alike, zk_Xwarm hW hX⟩
theorem zk_callSU (S : CallFix p m c cc nL s args Ts own) (hM : zk_MP l y wd rm C b (.ref b :: As) r) (cw : va_CS R s args own index y bytes maxL ret wd rm 0 0 n) (hX : zk_X s) (hrc : zk_rc C b s H) (hS : va_S A H0 H locs)
    (hn : As.length = n) (hls : ls.size = nL) (hst : st0 = As.reverse ++ .ref b :: rest) (hR : (rest.map fun v => v.category).sum ≤ 8) (hdg : decode cc pc = .ok (.invokespecial index, 3)) (hcs : cells ≤ R.cells ∧ slots ≤ R.slots)
    (kk : ∀ (H1 : Heap) (locs1 : List Loc), zk_rc C b s H1 → va_S A H0 H1 locs1 → W p l e R s m args below meth c H1 locs1 cells slots Q (F0 m (pc + 3) ls (zk_I r :: rest))) : W p l e R s m args below meth c H locs cells slots Q (F0 m pc ls st0) := by
  obtain ⟨cC, hat⟩ := hrc.2
  exact zk_call (va_runSU hat (As := As) (rest := rest) (g := F0 m pc ls st0) (H := H) (locs := locs) (cells := cells) (slots := slots) S hM cw ⟨zk_blindP, hrc.1, zk_preP hX hrc⟩ rfl hn hls hst (lv_room hR) hdg hcs) hS (fun q _ z => z.elim) (fun q z => z.elim) (fun t H1 locs1 ht hB _ hk hS1 => kk H1 locs1 (hrc.kept (fun q hq => hk q hq (fun z => z))) hS1)
theorem zk_isSub2 {vm : Vm} {c d : ClassId} {k kd : Class} (h1 : vm.classes[c]? = some k) (h2 : k.super = some d) (h3 : vm.classes[d]? = some kd) : vm.isSubclass c d = true := by
  show vm.isSubclassAux (vm.classes.size + 1) c d = true
  have hz : 0 < vm.classes.size := Nat.lt_of_le_of_lt (Nat.zero_le _) (Array.getElem?_eq_some_iff.mp h1).1
  obtain ⟨n, hn⟩ : ∃ n, vm.classes.size = n + 1 := ⟨vm.classes.size - 1, by omega⟩
  rw [hn]
  simp [Vm.isSubclassAux, h1, h2]
theorem zk_callSUg {T : State} {locs : List Loc} {cells slots : Nat} (X : Stand p l e R s m args below meth c T locs cells slots) (hexec : p.tables.exec = Jvm.exec) {xc : String}
    (hown : s.vm.findClass own = some m.cls) (hlink : (Cond.methodLink own index ⟨xc, y.name, y.desc⟩).before args s = true) (hsame : (Cond.sameMethod xc y.cls y.name y.desc).before args s = true) (hsup : (Cond.superclass own xc).before args s = true) (hsup2 : (Cond.superclass xc y.cls).before args s = true)
    (hinst : (Cond.instanceMethod y).before args s = true) (hcode : (Cond.code y bytes maxL ret).before args s = true) (hno : y.name ≠ "<init>")
    {W : Nat} {Pre : Pt → Array Value → Prop} {Post : Pt → Array Value → Option Value → Pt → Prop} (hK : Back l R p e below s args y 3 W Pre Post)
    {b : Addr} {cellB : Cell} {kB : Class} (hcell : T.heap[b]? = some cellB) (hobj : cellB.vm.isStatics = false) (hkB : s.vm.classes[cellB.cls]? = some kB)
    {g : JFrame} (hg : g.method = m) (hsize : g.locals.size = c.maxLocals) {argsL rest : List Value} (hlen : ∀ sig, parseMethodDescriptor y.desc = some sig → argsL.length = sig.parameters.length)
    (hstack : g.stack = argsL.reverse ++ .ref b :: rest) (hW : 2 * g.monitorRoom + (rest.map fun v => v.category).sum ≤ W) (hdg : decode c.code g.pc = .ok (.invokespecial index, 3))
    (hpre : ∀ vm₁, s.WarmedH vm₁ → Pre ⟨T.setVm vm₁, locs, cells, slots⟩ (Value.ref b :: argsL).toArray) :
    ∃ (v : Option Value) (vm₁ : Vm) (B : Pt), s.WarmedH vm₁ ∧ Stand p l e R s m args below meth c B.U B.locs B.cells B.slots ∧ Post ⟨T.setVm vm₁, locs, cells, slots⟩ (Value.ref b :: argsL).toArray v B ∧
      ∀ target, Steps p.tables e below (B.U.setTop { g with pc := g.pc + 3, stack := v.toList ++ rest }) target → Steps p.tables e below (T.setTop g) target := by
  obtain ⟨mk, methM, hnamed, hmethM, hstM, habM⟩ := Cond.instanceMethod_spec hinst
  obtain ⟨methM', cM, hmethM', -, -, -, -, -, -, hsigM⟩ := Cond.code_spec hnamed hcode
  cases hmethM.symm.trans hmethM'
  obtain ⟨ps, dk, kp, hps, hdk, hkp, hsuper, -, -, hnid⟩ := Cond.superclass_spec hown hsup
  obtain ⟨p2, k2, kp2, hps2, hk2, hkp2, hsuper2, -, -, -⟩ := Cond.superclass_spec hps hsup2
  have hn : s.methodNamed? ⟨y.cls, y.name, y.desc⟩ = some mk := hnamed
  have hpm : p2 = mk.cls := Option.some.inj (hps2.symm.trans (findClass_of_methodNamed hnamed))
  have hsub : s.vm.isSubclass ps mk.cls = true := by rw [← hpm]; exact zk_isSub2 hk2 hsuper2 hkp2
  obtain ⟨vm₁, X₁, hstep₁⟩ := X.invokespecialUp (x := ⟨xc, y.name, y.desc⟩) (owner := y.cls) hexec hown hlink hsame hn hmethM hstM habM hno hdk hnid hps hsuper hsub (a := b) (cell := cellB) hcell
    (fun z h => by rw [h] at hobj; cases hobj) hkB (g := g) hg (argsL := argsL) (rest := rest) (hlen _ hsigM) hstack hdg
  obtain ⟨v, B, X', hpost, hsteps⟩ := hK m meth c ⟨T.setVm vm₁, locs, cells, slots⟩ { g with stack := rest } (.invokespecial index) mk (Value.ref b :: argsL).toArray X₁ hg hsize hdg hW (X₁.named hnamed) (hpre vm₁ X₁.warmed)
  exact ⟨v, vm₁, B, X₁.warmed, X', hpost, fun target h => hstep₁ _ (by rw [doInvoke_state]; exact hsteps.trans h)⟩
theorem zk_callSU2 {xc : String} (S : CallFix p m c cc nL s args Ts own) (hM : zk_MP l y wd rm C b (.ref b :: As) r) (hl1 : (Cond.methodLink own index ⟨xc, y.name, y.desc⟩).before args s = true) (hl2 : (Cond.sameMethod xc y.cls y.name y.desc).before args s = true) (hl3 : (Cond.superclass own xc).before args s = true) (hl4 : (Cond.superclass xc y.cls).before args s = true)
    (hl5 : (Cond.instanceMethod y).before args s = true) (hini : (Cond.initialized y.cls).before args s = true) (hcode : (Cond.code y bytes maxL ret).before args s = true) (hws : ∀ w ∈ wd, ∀ (a' : Array Value) (U : State), s.WarmedH U.vm → w.before a' U = true) (hcw : Cond.code y bytes maxL ret ∈ wd) (hrm0 : rm.cells = 0) (hrs : rm.slots = 0)
    (hd : y.name ≠ "<init>" ∧ (parseMethodDescriptor y.desc).map (fun d => d.parameters.length) = some n) (hRm : rm.frames + 1 ≤ R.frames ∧ 8 + (maxL + 11) + rm.locals ≤ R.locals) (hX : zk_X s) (hrc : zk_rc C b s H) (hS : va_S A H0 H locs)
    (hn : As.length = n) (hls : ls.size = nL) (hst : st0 = As.reverse ++ .ref b :: rest) (hR : (rest.map fun v => v.category).sum ≤ 8) (hdg : decode cc pc = .ok (.invokespecial index, 3)) (hcs : cells ≤ R.cells ∧ slots ≤ R.slots)
    (kk : ∀ (H1 : Heap) (locs1 : List Loc), zk_rc C b s H1 → va_S A H0 H1 locs1 → W p l e R s m args below meth c H1 locs1 cells slots Q (F0 m (pc + 3) ls (zk_I r :: rest))) : W p l e R s m args below meth c H locs cells slots Q (F0 m pc ls st0) := by
  have hK : Back l R p e below s args y 3 8 (PreOf R 0 0 (va_Pc (.ref b :: As) (fun U => zk_rc C b U U.heap ∧ zk_X U))) (PostOf (zk_Q (some (zk_I r)) (fun _ => True) (fun _ => False)) 0 0 (fun _ => False)) := back_of (bytes := bytes) (maxL := maxL) (ret := ret) hM zk_blindP hrm0 hrs hRm.1 hRm.2 hws hcw (fun a' U hW => word_at hW (Or.inl (by first | rfl | simp [Cond.onTables, Cond.keeps, Cond.steady])) hini)
  obtain ⟨hx, hb, hml, ho, -⟩ := S
  have hlen : ∀ sig, parseMethodDescriptor y.desc = some sig → n = sig.parameters.length := fun sig h => by
    have h2 := hd.2
    rw [h] at h2
    exact (Option.some.inj h2).symm
  have hrc0 := hrc
  obtain ⟨⟨cellB, hcB, hoB, hclB⟩, cC, hfc, kB, hkB, -⟩ := hrc0
  cases hfc.symm.trans hclB
  have hrun : va_Run p l e R s m args below meth c H locs cells slots 0 0 (F0 m pc ls st0) rest (zk_Q (some (zk_I r)) (fun _ => True) (fun _ => False) (Value.ref b :: As).toArray) (fun _ => False) := by
    intro T hT X
    obtain ⟨v, vm₁, ⟨U', l2, c2, s2⟩, hW₁, X', ⟨g', mk, t, L, e1, e2, hq, h1, hL, h2, h3⟩, st⟩ := zk_callSUg X hx (bytes := bytes) (maxL := maxL) (ret := ret) ho hl1 hl2 hl3 hl4 hl5 hcode hd.1 hK (by rw [hT]; exact hcB) hoB hkB rfl (hls.trans hml.symm) (argsL := As) (rest := rest) (fun sig h => hn.trans (hlen sig h)) hst (lv_room hR) (by rw [hb]; exact hdg)
      (fun vm₁ hW₁ => ⟨hcs.1, hcs.2, zk_preP hX hrc (T.setVm vm₁) hT hW₁⟩)
    dsimp only [Pt.U, Pt.locs, Pt.cells, Pt.slots] at X' e1 e2 h1 h2 h3 st
    subst h1; subst h2; subst h3
    exact ⟨v, (T.setVm vm₁).calling g' mk (Value.ref b :: As).toArray, t, U', L, hT, X', hL, e1, e2, hq, st⟩
  exact zk_call hrun hS (fun q _ z => z.elim) (fun q z => z.elim) (fun t H1 locs1 ht hB _ hk hS1 => kk H1 locs1 (hrc.kept (fun q hq => hk q hq (fun z => z))) hS1)
/-- an interface's method on an object -/
theorem zk_callF {x : MethodName} {count : Nat} (S : CallFix p m c cc nL s args Ts own) (hM : zk_MP l y wd rm C b (.ref b :: As) r) (cw : va_CI R s args own C index x y bytes maxL ret wd rm 0 0 n) (hX : zk_X s) (hrc : zk_rc C b s H) (hS : va_S A H0 H locs)
    (hn : As.length = n) (hls : ls.size = nL) (hst : st0 = As.reverse ++ .ref b :: rest) (hR : (rest.map fun v => v.category).sum ≤ 8) (hdg : decode cc pc = .ok (.invokeinterface index count, 5)) (hcs : cells ≤ R.cells ∧ slots ≤ R.slots)
    (kk : ∀ (H1 : Heap) (locs1 : List Loc), (∀ q : Nat, q < H.size → H1[q]? = H[q]?) → va_S A H0 H1 locs1 → W p l e R s m args below meth c H1 locs1 cells slots Q (F0 m (pc + 5) ls (zk_I r :: rest))) : W p l e R s m args below meth c H locs cells slots Q (F0 m pc ls st0) := by
  obtain ⟨cC, hat⟩ := hrc.2
  have hrun : va_Run5 p l e R s m args below meth c H locs cells slots 0 0 (F0 m pc ls st0) rest (zk_Q (some (zk_I r)) (fun _ => True) (fun _ => False) (Value.ref b :: As).toArray) (fun _ => False) :=
    va_runF hat (As := As) (rest := rest) (g := F0 m pc ls st0) (H := H) (locs := locs) (cells := cells) (slots := slots) S hM cw ⟨zk_blindP, hrc.1, zk_preP hX hrc⟩ rfl hn hls hst (lv_room hR) hdg hcs
  intro T hT X
  obtain ⟨v, st₀, t, T', L, h0, X', hL, e1, e2, ⟨hv, hb, hz, hk⟩, st⟩ := hrun T hT X
  cases hv
  rw [h0] at hz hk
  obtain ⟨t2, a1, b1⟩ := kk T'.heap (locs ++ L) (fun q h1 => by rw [e1]; exact hk q h1 (fun z => z))
    ⟨Nat.le_trans hS.1 (by rw [e1]; exact hz), fun q h1 h2 => by rw [e1, hk q (Nat.lt_of_lt_of_le h1 hS.1) (fun z => z)]; exact hS.2.1 q h1 h2, fun q hq => by
      rcases List.mem_append.mp hq with h | h
      · exact hS.2.2 q h
      · exact (hL q h).elim⟩ T' rfl X'
  exact ⟨t2, st t2 a1, b1⟩
end ZPERS
abbrev zw_X2_kind_rm : Room := { frames := 1, cells := 0, slots := 0, locals := 32 }
theorem zw_X2_kind (l : Launch) {C : String} {b : Nat} : zk_MP l yX2_kind (ws_ yX2_kind cX2_kind 1 (some .int)) zw_X2_kind_rm C b [.ref b] (0) := by
  refine zk_startP (by decide +kernel) (Nat.le_of_ble_eq_true rfl) (fun p e s m below meth c H locs ls hx hb hr hlk hml hown hts hX hrc hS hl => ?_)
  have hl : lv_has ls 1 [(0, .ref b)] := hl
  have hown : s.vm.findClass RX2 = some m.cls := hown
  refine zk_iconst hx hb dX2_kind_0 ?_
  exact zk_iret hx hb hr hlk rfl (fun _ _ => trivial) hS dX2_kind_1
abbrev zw_X3_kind_rm : Room := { frames := 2, cells := 0, slots := 0, locals := 72 }
theorem zw_X3_kind (l : Launch) {C : String} {b : Nat} : zk_MP l yX3_kind (ws_ yX3_kind cX3_kind 1 (some .int)) zw_X3_kind_rm C b [.ref b] (1) := by
  refine zk_startP (by decide +kernel) (Nat.le_of_ble_eq_true rfl) (fun p e s m below meth c H locs ls hx hb hr hlk hml hown hts hX hrc hS hl => ?_)
  have hl : lv_has ls 1 [(0, .ref b)] := hl
  have hown : s.vm.findClass RX3 = some m.cls := hown
  refine lv_aload_n hx hb dX3_kind_0 rfl (lv_at hl 0 rfl) ?_
  refine zk_callSU (As := []) (rest := []) ⟨hx, hb, hml, hown, hts⟩ (zw_X2_kind l) (va_cwSU 0 hts (zk_lwSU q564 q551 q485 q549 q99 q559) rfl rfl rfl (by decide +kernel) ⟨Nat.le_of_ble_eq_true rfl, Nat.le_of_ble_eq_true rfl⟩) hX hrc hS rfl hl.1 rfl (Nat.le_of_ble_eq_true rfl) dX3_kind_1 ⟨Nat.le_of_ble_eq_true rfl, Nat.le_of_ble_eq_true rfl⟩ (fun H locs hrc hS => ?_)
  refine zk_iconst hx hb dX3_kind_4 ?_
  refine zk_iadd hx hb dX3_kind_5 ?_
  exact zk_iret hx hb hr hlk rfl (fun _ _ => trivial) hS dX3_kind_6
abbrev zw_X4_kind_rm : Room := { frames := 2, cells := 0, slots := 0, locals := 72 }
theorem zw_X4_kind (l : Launch) {C : String} {b : Nat} : zk_MP l yX4_kind (ws_ yX4_kind cX4_kind 1 (some .int)) zw_X4_kind_rm C b [.ref b] (2) := by
  refine zk_startP (by decide +kernel) (Nat.le_of_ble_eq_true rfl) (fun p e s m below meth c H locs ls hx hb hr hlk hml hown hts hX hrc hS hl => ?_)
  have hl : lv_has ls 1 [(0, .ref b)] := hl
  have hown : s.vm.findClass RX4 = some m.cls := hown
  refine lv_aload_n hx hb dX4_kind_0 rfl (lv_at hl 0 rfl) ?_
  refine zk_callSU (As := []) (rest := []) ⟨hx, hb, hml, hown, hts⟩ (zw_X2_kind l) (va_cwSU 0 hts (zk_lwSU q568 q551 q497 q549 q99 q559) rfl rfl rfl (by decide +kernel) ⟨Nat.le_of_ble_eq_true rfl, Nat.le_of_ble_eq_true rfl⟩) hX hrc hS rfl hl.1 rfl (Nat.le_of_ble_eq_true rfl) dX4_kind_1 ⟨Nat.le_of_ble_eq_true rfl, Nat.le_of_ble_eq_true rfl⟩ (fun H locs hrc hS => ?_)
  refine zk_iconst hx hb dX4_kind_4 ?_
  refine zk_iadd hx hb dX4_kind_5 ?_
  exact zk_iret hx hb hr hlk rfl (fun _ _ => trivial) hS dX4_kind_6
abbrev zw_X5_kind_rm : Room := { frames := 2, cells := 0, slots := 0, locals := 72 }
theorem zw_X5_kind (l : Launch) {C : String} {b : Nat} : zk_MP l yX5_kind (ws_ yX5_kind cX5_kind 1 (some .int)) zw_X5_kind_rm C b [.ref b] (3) := by
  refine zk_startP (by decide +kernel) (Nat.le_of_ble_eq_true rfl) (fun p e s m below meth c H locs ls hx hb hr hlk hml hown hts hX hrc hS hl => ?_)
  have hl : lv_has ls 1 [(0, .ref b)] := hl
  have hown : s.vm.findClass RX5 = some m.cls := hown
  refine lv_aload_n hx hb dX5_kind_0 rfl (lv_at hl 0 rfl) ?_
  refine zk_callSU (As := []) (rest := []) ⟨hx, hb, hml, hown, hts⟩ (zw_X2_kind l) (va_cwSU 0 hts (zk_lwSU q558 q551 q509 q549 q99 q559) rfl rfl rfl (by decide +kernel) ⟨Nat.le_of_ble_eq_true rfl, Nat.le_of_ble_eq_true rfl⟩) hX hrc hS rfl hl.1 rfl (Nat.le_of_ble_eq_true rfl) dX5_kind_1 ⟨Nat.le_of_ble_eq_true rfl, Nat.le_of_ble_eq_true rfl⟩ (fun H locs hrc hS => ?_)
  refine zk_iconst hx hb dX5_kind_4 ?_
  refine zk_iadd hx hb dX5_kind_5 ?_
  exact zk_iret hx hb hr hlk rfl (fun _ _ => trivial) hS dX5_kind_6
abbrev zw_X6_kind_rm : Room := { frames := 3, cells := 0, slots := 0, locals := 112 }
theorem zw_X6_kind (l : Launch) {C : String} {b : Nat} : zk_MP l yX6_kind (ws_ yX6_kind cX6_kind 1 (some .int)) zw_X6_kind_rm C b [.ref b] (4) := by
  refine zk_startP (by decide +kernel) (Nat.le_of_ble_eq_true rfl) (fun p e s m below meth c H locs ls hx hb hr hlk hml hown hts hX hrc hS hl => ?_)
  have hl : lv_has ls 1 [(0, .ref b)] := hl
  have hown : s.vm.findClass RX6 = some m.cls := hown
  refine lv_aload_n hx hb dX6_kind_0 rfl (lv_at hl 0 rfl) ?_
  refine zk_callSU (As := []) (rest := []) ⟨hx, hb, hml, hown, hts⟩ (zw_X5_kind l) (va_cwSU 0 hts (zk_lwSU q555 q1415 q522 q556 q102 q557) rfl rfl rfl (by decide +kernel) ⟨Nat.le_of_ble_eq_true rfl, Nat.le_of_ble_eq_true rfl⟩) hX hrc hS rfl hl.1 rfl (Nat.le_of_ble_eq_true rfl) dX6_kind_1 ⟨Nat.le_of_ble_eq_true rfl, Nat.le_of_ble_eq_true rfl⟩ (fun H locs hrc hS => ?_)
  refine zk_iconst hx hb dX6_kind_4 ?_
  refine zk_iadd hx hb dX6_kind_5 ?_
  exact zk_iret hx hb hr hlk rfl (fun _ _ => trivial) hS dX6_kind_6
abbrev zw_X7_kind_rm : Room := { frames := 3, cells := 0, slots := 0, locals := 112 }
theorem zw_X7_kind (l : Launch) {C : String} {b : Nat} : zk_MP l yX7_kind (ws_ yX7_kind cX7_kind 1 (some .int)) zw_X7_kind_rm C b [.ref b] (5) := by
  refine zk_startP (by decide +kernel) (Nat.le_of_ble_eq_true rfl) (fun p e s m below meth c H locs ls hx hb hr hlk hml hown hts hX hrc hS hl => ?_)
  have hl : lv_has ls 1 [(0, .ref b)] := hl
  have hown : s.vm.findClass RX7 = some m.cls := hown
  refine lv_aload_n hx hb dX7_kind_0 rfl (lv_at hl 0 rfl) ?_
  refine zk_callSU (As := []) (rest := []) ⟨hx, hb, hml, hown, hts⟩ (zw_X4_kind l) (va_cwSU 0 hts (zk_lwSU q572 q1416 q535 q566 q101 q567) rfl rfl rfl (by decide +kernel) ⟨Nat.le_of_ble_eq_true rfl, Nat.le_of_ble_eq_true rfl⟩) hX hrc hS rfl hl.1 rfl (Nat.le_of_ble_eq_true rfl) dX7_kind_1 ⟨Nat.le_of_ble_eq_true rfl, Nat.le_of_ble_eq_true rfl⟩ (fun H locs hrc hS => ?_)
  refine zk_iconst hx hb dX7_kind_4 ?_
  refine zk_iadd hx hb dX7_kind_5 ?_
  exact zk_iret hx hb hr hlk rfl (fun _ _ => trivial) hS dX7_kind_6
abbrev zw_X2_dares_rm : Room := { frames := 1, cells := 0, slots := 0, locals := 32 }
theorem zw_X2_dares (l : Launch) {C : String} {b : Nat} (p1 p2 p3 : Int) : zk_MP l yX2_dares (ws_ yX2_dares cX2_dares 4 (some .int)) zw_X2_dares_rm C b [.ref b, zk_I p1, zk_I p2, zk_I p3] (p1) := by
  refine zk_startP (by decide +kernel) (Nat.le_of_ble_eq_true rfl) (fun p e s m below meth c H locs ls hx hb hr hlk hml hown hts hX hrc hS hl => ?_)
  have hl : lv_has ls 4 [(0, .ref b), (1, zk_I p1), (2, zk_I p2), (3, zk_I p3)] := hl
  have hown : s.vm.findClass RX2 = some m.cls := hown
  refine zk_iloadn hx hb dX2_dares_0 rfl (lv_at hl 1 rfl) ?_
  exact zk_iret hx hb hr hlk rfl (fun _ _ => trivial) hS dX2_dares_1
abbrev zw_X3_dares_rm : Room := { frames := 2, cells := 0, slots := 0, locals := 100 }
theorem zw_X3_dares (l : Launch) {C : String} {b : Nat} (p1 p2 p3 : Int) (r : Int) (hf : zc_d1 p1 p2 = some r) : zk_MP l yX3_dares (ws_ yX3_dares cX3_dares 5 (some .int)) zw_X3_dares_rm C b [.ref b, zk_I p1, zk_I p2, zk_I p3] (r) := by
  refine zk_startP (by decide +kernel) (Nat.le_of_ble_eq_true rfl) (fun p e s m below meth c H locs ls hx hb hr hlk hml hown hts hX hrc hS hl => ?_)
  have hl : lv_has ls 5 [(0, .ref b), (1, zk_I p1), (2, zk_I p2), (3, zk_I p3)] := hl
  have hown : s.vm.findClass RX3 = some m.cls := hown
  refine lv_aload_n hx hb dX3_dares_0 rfl (lv_at hl 0 rfl) ?_
  refine zk_iloadn hx hb dX3_dares_1 rfl (lv_at hl 1 rfl) ?_
  refine zk_iloadn hx hb dX3_dares_2 rfl (lv_at hl 2 rfl) ?_
  refine zk_iloadn hx hb dX3_dares_3 rfl (lv_at hl 3 rfl) ?_
  refine zk_callSU (As := [zk_I p1, zk_I p2, zk_I p3]) (rest := []) ⟨hx, hb, hml, hown, hts⟩ (zw_X2_dares l p1 p2 p3) (va_cwSU 3 hts (zk_lwSU q615 q1417 q485 q600 q99 q601) rfl rfl rfl (by decide +kernel) ⟨Nat.le_of_ble_eq_true rfl, Nat.le_of_ble_eq_true rfl⟩) hX hrc hS rfl hl.1 rfl (Nat.le_of_ble_eq_true rfl) dX3_dares_4 ⟨Nat.le_of_ble_eq_true rfl, Nat.le_of_ble_eq_true rfl⟩ (fun H locs hrc hS => ?_)
  refine lv_istore (lv' := [(4, zk_I p1), (0, .ref b), (1, zk_I p1), (2, zk_I p2), (3, zk_I p3)]) hx hb dX3_dares_7 hl (by decide) rfl (fun ls hl => ?_)
  refine zk_iloadn hx hb dX3_dares_9 rfl (lv_at hl 3 rfl) ?_
  refine zk_iconst hx hb dX3_dares_10 ?_
  have hf : zk_g ((0 ≤ p2 ∧ p2 ≤ 2147483647) ∧ (0 < (2 : Int) ∧ (2 : Int) ≤ 2147483647)) (zk_g (zk_R (p2 % 2)) (if p2 % 2 = 0 then some (2 * p1) else some p1)) = some r := hf
  refine zk_rirem hx hb dX3_dares_11 hf (fun hf => ?_)
  refine zk_if_ne (tgt := 22) hx hb dX3_dares_12 (by decide) hf (fun h => h) (fun hf => ?_) (fun hf => ?_)
  · refine zk_iload hx hb dX3_dares_22 (lv_at hl 0 rfl) ?_
    exact zk_iret hx hb hr hlk (Option.some.inj hf) (fun _ _ => trivial) hS dX3_dares_24
  · refine zk_iconst hx hb dX3_dares_15 ?_
    refine zk_iload hx hb dX3_dares_16 (lv_at hl 0 rfl) ?_
    refine zk_imul hx hb dX3_dares_18 ?_
    refine lv_goto (tgt := 24) hx hb dX3_dares_19 (by decide) ?_
    exact zk_iret hx hb hr hlk (Option.some.inj hf) (fun _ _ => trivial) hS dX3_dares_24
abbrev zw_X4_dares_rm : Room := { frames := 2, cells := 0, slots := 0, locals := 100 }
theorem zw_X4_dares (l : Launch) {C : String} {b : Nat} (p1 p2 p3 : Int) (r : Int) (hf : zc_daresF p1 = some r) : zk_MP l yX4_dares (ws_ yX4_dares cX4_dares 4 (some .int)) zw_X4_dares_rm C b [.ref b, zk_I p1, zk_I p2, zk_I p3] (r) := by
  refine zk_startP (by decide +kernel) (Nat.le_of_ble_eq_true rfl) (fun p e s m below meth c H locs ls hx hb hr hlk hml hown hts hX hrc hS hl => ?_)
  have hl : lv_has ls 4 [(0, .ref b), (1, zk_I p1), (2, zk_I p2), (3, zk_I p3)] := hl
  have hown : s.vm.findClass RX4 = some m.cls := hown
  refine zk_iloadn hx hb dX4_dares_0 rfl (lv_at hl 1 rfl) ?_
  refine zk_iconst hx hb dX4_dares_1 ?_
  have hf : zk_g (zk_R p1) (if 5 ≤ p1 then some p1 else some 0) = some r := hf
  refine zk_icmp_ge (tgt := 9) hx hb dX4_dares_2 (by decide) hf (fun h => ⟨h, by decide⟩) (fun hf => ?_) (fun hf => ?_)
  · refine lv_aload_n hx hb dX4_dares_9 rfl (lv_at hl 0 rfl) ?_
    refine zk_iloadn hx hb dX4_dares_10 rfl (lv_at hl 1 rfl) ?_
    refine zk_iloadn hx hb dX4_dares_11 rfl (lv_at hl 2 rfl) ?_
    refine zk_iloadn hx hb dX4_dares_12 rfl (lv_at hl 3 rfl) ?_
    refine zk_callSU (As := [zk_I p1, zk_I p2, zk_I p3]) (rest := []) ⟨hx, hb, hml, hown, hts⟩ (zw_X2_dares l p1 p2 p3) (va_cwSU 3 hts (zk_lwSU q622 q1417 q497 q600 q99 q601) rfl rfl rfl (by decide +kernel) ⟨Nat.le_of_ble_eq_true rfl, Nat.le_of_ble_eq_true rfl⟩) hX hrc hS rfl hl.1 rfl (Nat.le_of_ble_eq_true rfl) dX4_dares_13 ⟨Nat.le_of_ble_eq_true rfl, Nat.le_of_ble_eq_true rfl⟩ (fun H locs hrc hS => ?_)
    exact zk_iret hx hb hr hlk (Option.some.inj hf) (fun _ _ => trivial) hS dX4_dares_16
  · refine zk_iconst hx hb dX4_dares_5 ?_
    refine lv_goto (tgt := 16) hx hb dX4_dares_6 (by decide) ?_
    exact zk_iret hx hb hr hlk (Option.some.inj hf) (fun _ _ => trivial) hS dX4_dares_16
abbrev zw_X6_dares_rm : Room := { frames := 4, cells := 0, slots := 0, locals := 300 }
theorem zw_X6_dares (l : Launch) {C : String} {b : Nat} (p1 p2 p3 : Int) (r : Int) (hf : zc_d4 p1 p3 = some r) : zk_MP l yX6_dares (ws_ yX6_dares cX6_dares 4 (some .int)) zw_X6_dares_rm C b [.ref b, zk_I p1, zk_I p2, zk_I p3] (r) := by
  refine zk_startP (by decide +kernel) (Nat.le_of_ble_eq_true rfl) (fun p e s m below meth c H locs ls hx hb hr hlk hml hown hts hX hrc hS hl => ?_)
  have hl : lv_has ls 4 [(0, .ref b), (1, zk_I p1), (2, zk_I p2), (3, zk_I p3)] := hl
  have hown : s.vm.findClass RX6 = some m.cls := hown
  refine lv_aload_n hx hb dX6_dares_0 rfl (lv_at hl 0 rfl) ?_
  refine zk_iloadn hx hb dX6_dares_1 rfl (lv_at hl 1 rfl) ?_
  refine zk_iloadn hx hb dX6_dares_2 rfl (lv_at hl 2 rfl) ?_
  refine zk_iloadn hx hb dX6_dares_3 rfl (lv_at hl 3 rfl) ?_
  refine zk_callSU2 (xc := "DareFord$Bred") (rest := []) (n := 3) ⟨hx, hb, hml, hown, hts⟩ (zw_X2_dares l p1 p2 p3) (hts _ q597) (hts _ q598) (hts _ q522) (hts _ q509) (hts _ q600) (hts _ q99) (hts _ q601) (pay_in hts (lw_meth q601)) (List.mem_cons_self) rfl rfl (by decide +kernel) ⟨Nat.le_of_ble_eq_true rfl, Nat.le_of_ble_eq_true rfl⟩ hX hrc hS rfl hl.1 rfl (Nat.le_of_ble_eq_true rfl) dX6_dares_4 ⟨Nat.le_of_ble_eq_true rfl, Nat.le_of_ble_eq_true rfl⟩ (fun H locs hrc hS => ?_)
  refine zk_iconst hx hb dX6_dares_7 ?_
  refine zk_iloadn hx hb dX6_dares_8 rfl (lv_at hl 3 rfl) ?_
  have hf : zk_g (zk_R 3 ∧ zk_R p3) (some (p1 + min 3 p3)) = some r := hf
  refine zk_mmin hx hb (by rw [hml]; exact hl.1.symm) hown (hts _ q602) (hts _ q603) (hts _ q105) (hts _ q604) (Nat.le_of_ble_eq_true rfl) (Nat.le_of_ble_eq_true rfl) (Nat.le_of_ble_eq_true rfl) (Nat.le_of_ble_eq_true rfl) hf dX6_dares_9 (fun hf => ?_)
  refine zk_iadd hx hb dX6_dares_12 ?_
  exact zk_iret hx hb hr hlk (Option.some.inj hf) (fun _ _ => trivial) hS dX6_dares_13
abbrev zw_X7_dares_rm : Room := { frames := 4, cells := 0, slots := 0, locals := 300 }
theorem zw_X7_dares (l : Launch) {C : String} {b : Nat} (p1 p2 p3 : Int) (r : Int) (hf : zc_d5 p1 = some r) : zk_MP l yX7_dares (ws_ yX7_dares cX7_dares 4 (some .int)) zw_X7_dares_rm C b [.ref b, zk_I p1, zk_I p2, zk_I p3] (r) := by
  refine zk_startP (by decide +kernel) (Nat.le_of_ble_eq_true rfl) (fun p e s m below meth c H locs ls hx hb hr hlk hml hown hts hX hrc hS hl => ?_)
  have hl : lv_has ls 4 [(0, .ref b), (1, zk_I p1), (2, zk_I p2), (3, zk_I p3)] := hl
  have hown : s.vm.findClass RX7 = some m.cls := hown
  refine zk_iconst hx hb dX7_dares_0 ?_
  refine zk_bipush hx hb dX7_dares_1 (by decide) ?_
  refine lv_aload_n hx hb dX7_dares_3 rfl (lv_at hl 0 rfl) ?_
  refine zk_iloadn hx hb dX7_dares_4 rfl (lv_at hl 1 rfl) ?_
  refine zk_iloadn hx hb dX7_dares_5 rfl (lv_at hl 2 rfl) ?_
  refine zk_iloadn hx hb dX7_dares_6 rfl (lv_at hl 3 rfl) ?_
  obtain ⟨v, hq, hf⟩ := zk_bs hf
  refine zk_callSU (As := [zk_I p1, zk_I p2, zk_I p3]) (rest := [zk_I 10, zk_I 0]) ⟨hx, hb, hml, hown, hts⟩ (zw_X4_dares l p1 p2 p3 _ hq) (va_cwSU 3 hts (zk_lwSU q632 q1418 q535 q619 q101 q621) rfl rfl rfl (by decide +kernel) ⟨Nat.le_of_ble_eq_true rfl, Nat.le_of_ble_eq_true rfl⟩) hX hrc hS rfl hl.1 rfl (Nat.le_of_ble_eq_true rfl) dX7_dares_7 ⟨Nat.le_of_ble_eq_true rfl, Nat.le_of_ble_eq_true rfl⟩ (fun H locs hrc hS => ?_)
  refine zk_isub hx hb dX7_dares_10 ?_
  refine zk_mmax hx hb (by rw [hml]; exact hl.1.symm) hown (hts _ q633) (hts _ q634) (hts _ q105) (hts _ q635) (Nat.le_of_ble_eq_true rfl) (Nat.le_of_ble_eq_true rfl) (Nat.le_of_ble_eq_true rfl) (Nat.le_of_ble_eq_true rfl) hf dX7_dares_11 (fun hf => ?_)
  exact zk_iret hx hb hr hlk (Option.some.inj hf) (fun _ _ => trivial) hS dX7_dares_14
abbrev zw_X8_fades_rm : Room := { frames := 1, cells := 0, slots := 0, locals := 32 }
theorem zw_X8_fades (l : Launch) {C : String} {b : Nat} : zk_MP l yX8_fades (ws_ yX8_fades cX8_fades 1 (some .int)) zw_X8_fades_rm C b [.ref b] (1) := by
  refine zk_startP (by decide +kernel) (Nat.le_of_ble_eq_true rfl) (fun p e s m below meth c H locs ls hx hb hr hlk hml hown hts hX hrc hS hl => ?_)
  have hl : lv_has ls 1 [(0, .ref b)] := hl
  have hown : s.vm.findClass RX8 = some m.cls := hown
  refine zk_iconst hx hb dX8_fades_0 ?_
  exact zk_iret hx hb hr hlk rfl (fun _ _ => trivial) hS dX8_fades_1
abbrev zw_X5_fades_rm : Room := { frames := 1, cells := 0, slots := 0, locals := 32 }
theorem zw_X5_fades (l : Launch) {C : String} {b : Nat} : zk_MP l yX5_fades (ws_ yX5_fades cX5_fades 1 (some .int)) zw_X5_fades_rm C b [.ref b] (0) := by
  refine zk_startP (by decide +kernel) (Nat.le_of_ble_eq_true rfl) (fun p e s m below meth c H locs ls hx hb hr hlk hml hown hts hX hrc hS hl => ?_)
  have hl : lv_has ls 1 [(0, .ref b)] := hl
  have hown : s.vm.findClass RX5 = some m.cls := hown
  refine zk_iconst hx hb dX5_fades_0 ?_
  exact zk_iret hx hb hr hlk rfl (fun _ _ => trivial) hS dX5_fades_1
