/-! super.m() that lands in an interface's default method: the lookup of invokespecial finds what the selection finds -/
def zk_ch (vm : Vm) (c : ClassId) : Nat → Option ClassId
  | 0 => some c
  | n + 1 => (zk_ch vm c n).bind fun x => vm.classes[x]?.bind (·.super)
theorem zk_pg : ∀ (n : Nat) (f : Nat → Nat), (∀ i, i ≤ n → f i < n) → ∃ i j, i < j ∧ j ≤ n ∧ f i = f j
  | 0, f, h => absurd (h 0 (Nat.le_refl _)) (Nat.not_lt_zero _)
  | n + 1, f, h => by
    by_cases hv : ∃ i, i ≤ n ∧ f i = f (n + 1)
    · obtain ⟨i, h1, h2⟩ := hv
      exact ⟨i, n + 1, by omega, Nat.le_refl _, h2⟩
    · have hne : ∀ i, i ≤ n → f i ≠ f (n + 1) := fun i h1 h2 => hv ⟨i, h1, h2⟩
      obtain ⟨i, j, h1, h2, h3⟩ := zk_pg n (fun i => if f i = n then f (n + 1) else f i) (fun i hi => by
        have a := h i (by omega)
        have b := h (n + 1) (Nat.le_refl _)
        have c := hne i hi
        show (if f i = n then f (n + 1) else f i) < n
        split <;> omega)
      refine ⟨i, j, h1, by omega, ?_⟩
      have a := hne i (by omega)
      have b := hne j h2
      have h3 : (if f i = n then f (n + 1) else f i) = (if f j = n then f (n + 1) else f j) := h3
      split at h3 <;> split at h3 <;> omega
theorem zk_chAdd {vm : Vm} {c : ClassId} {i j : Nat} (h : zk_ch vm c i = zk_ch vm c j) : ∀ k, zk_ch vm c (i + k) = zk_ch vm c (j + k)
  | 0 => h
  | k + 1 => by
    show (zk_ch vm c (i + k)).bind _ = (zk_ch vm c (j + k)).bind _
    rw [zk_chAdd h k]
theorem zk_chPre {vm : Vm} {c : ClassId} : ∀ (n : Nat) (x : ClassId), zk_ch vm c n = some x → ∀ i, i < n → ∃ y k p, zk_ch vm c i = some y ∧ vm.classes[y]? = some k ∧ k.super = some p ∧ zk_ch vm c (i + 1) = some p
  | 0, _, _, i, hi => absurd hi (Nat.not_lt_zero _)
  | n + 1, x, h, i, hi => by
    have h' : (zk_ch vm c n).bind (fun x => vm.classes[x]?.bind (·.super)) = some x := h
    obtain ⟨y, h1, h2⟩ := Option.bind_eq_some_iff.mp h'
    obtain ⟨k, h3, h4⟩ := Option.bind_eq_some_iff.mp h2
    rcases Nat.lt_succ_iff_lt_or_eq.mp hi with g | g
    · exact zk_chPre n y h1 i g
    · rw [g]
      exact ⟨y, k, x, h1, h3, h4, h⟩
theorem zk_chFix {vm : Vm} {c x : ClassId} (h : zk_ch vm c (vm.classes.size + 1) = some x) : ∃ i, i ≤ vm.classes.size ∧ zk_ch vm c i = some x := by
  have hp := zk_chPre _ x h
  obtain ⟨i, j, h1, h2, h3⟩ := zk_pg vm.classes.size (fun i => (zk_ch vm c i).getD 0) (fun i hi => by
    obtain ⟨y, k, p, g1, g2, -⟩ := hp i (by omega)
    show (zk_ch vm c i).getD 0 < vm.classes.size
    rw [g1]
    exact (Array.getElem?_eq_some_iff.mp g2).1)
  obtain ⟨yi, -, -, gi, -⟩ := hp i (by omega)
  obtain ⟨yj, -, -, gj, -⟩ := hp j (by omega)
  have h3 : (zk_ch vm c i).getD 0 = (zk_ch vm c j).getD 0 := h3
  have e : zk_ch vm c i = zk_ch vm c j := by
    rw [gi, gj] at h3 ⊢
    exact congrArg some h3
  refine ⟨i + (vm.classes.size + 1 - j), by omega, ?_⟩
  rw [zk_chAdd e, show j + (vm.classes.size + 1 - j) = vm.classes.size + 1 from by omega]
  exact h
theorem zk_chMem {vm : Vm} {c0 x : ClassId} : ∀ (n j : Nat) (c : ClassId), zk_ch vm c0 j = some c → x ∈ vm.superclassesAux n c → ∃ i, i ≤ j + n ∧ zk_ch vm c0 i = some x
  | 0, _, _, _, h => by simp [Vm.superclassesAux] at h
  | n + 1, j, c, hc, h => by
    unfold Vm.superclassesAux at h
    cases hs : vm.classes[c]?.bind (·.super) with
    | none => rw [hs] at h; cases h
    | some p =>
      rw [hs] at h
      have hj : zk_ch vm c0 (j + 1) = some p := by
        show (zk_ch vm c0 j).bind _ = _
        rw [hc]
        exact hs
      rcases List.mem_cons.mp h with e | h
      · exact ⟨j + 1, by omega, by rw [hj, e]⟩
      · obtain ⟨i, h1, h2⟩ := zk_chMem n (j + 1) p hj h
        exact ⟨i, by omega, h2⟩
theorem zk_chNone {vm : Vm} {c0 : ClassId} {name desc : String} : ∀ (n j : Nat) (c : ClassId), zk_ch vm c0 j = some c → lookupInSuperclasses vm name desc n c = none → ∀ i x, j ≤ i → i < j + n → zk_ch vm c0 i = some x → ownMethod vm name desc x = none
  | 0, j, _, _, _, i, _, h1, h2, _ => absurd h1 (by omega)
  | n + 1, j, c, hc, h, i, x, h1, h2, hx => by
    unfold lookupInSuperclasses at h
    cases hk : vm.classes[c]? with
    | none =>
      rcases Nat.eq_or_lt_of_le h1 with e | g
      · subst e
        cases hc.symm.trans hx
        simp [ownMethod, hk]
      · obtain ⟨y, k, p, g1, g2, -⟩ := zk_chPre i x hx j g
        cases hc.symm.trans g1
        rw [hk] at g2
        cases g2
    | some k =>
      simp only [hk, Option.bind_eq_bind, Option.bind_some] at h
      cases hf : k.findMethod name desc with
      | some q => simp [hf] at h
      | none =>
        simp only [hf] at h
        rcases Nat.eq_or_lt_of_le h1 with e | g
        · subst e
          cases hc.symm.trans hx
          simp [ownMethod, hk, hf]
        · obtain ⟨y, k2, p, g1, g2, g3, g4⟩ := zk_chPre i x hx j g
          cases hc.symm.trans g1
          cases hk.symm.trans g2
          rw [g3] at h
          exact zk_chNone n (j + 1) p g4 h i x (by omega) (by omega) hx
theorem zk_chSel {vm : Vm} {c0 : ClassId} {mR m : MethodId} {name desc : String} : ∀ (n j : Nat) (c : ClassId), zk_ch vm c0 j = some c → selectInSuperclasses vm mR name desc n c = some m → ∃ i x, i < j + n ∧ zk_ch vm c0 i = some x ∧ (ownMethod vm name desc x).isSome
  | 0, _, _, _, h => by simp [selectInSuperclasses] at h
  | n + 1, j, c, hc, h => by
    unfold selectInSuperclasses at h
    cases hk : vm.classes[c]? with
    | none => simp [hk] at h
    | some k =>
      simp only [hk, Option.bind_eq_bind, Option.bind_some] at h
      cases hf : k.findMethod name desc with
      | some q => exact ⟨j, c, by omega, hc, by simp [ownMethod, hk, hf]⟩
      | none =>
        simp [hf] at h
        cases hs : k.super with
        | none => simp [hs] at h
        | some p =>
          simp [hs] at h
          have hj : zk_ch vm c0 (j + 1) = some p := by
            show (zk_ch vm c0 j).bind _ = _
            rw [hc]
            simp [hk, hs]
          obtain ⟨i, x, h1, h2, h3⟩ := zk_chSel n (j + 1) p hj h
          exact ⟨i, x, by omega, h2, h3⟩
theorem zk_lookSp {vm : Vm} {c : ClassId} {k mk : Class} {name desc : String} {m : MethodId} {meth : Method} (hk : vm.classes[c]? = some k) (hni : k.isInterface = false) (hl : vm.lookupUp c name desc = some m) (hm : vm.method? m = some meth) (hst : meth.isStatic = false) (hpv : meth.isPrivate = false) (hmn : meth.name = name) (hmd : meth.desc = desc)
    (hmk : vm.classes[m.cls]? = some mk) (hmi : mk.isInterface = true) (hsel : selectMethod {} vm c m = .method m) : lookupSpecial vm c name desc = .method m := by
  cases hL : lookupInSuperclasses vm name desc (vm.classes.size + 1) c with
  | some x =>
    have e : x = m := by simpa [Vm.lookupUp, hL] using hl
    subst e
    exact lookupSpecial_of_superclasses hk hni hL hm hst
  | none =>
    have hown : ∀ i x, i ≤ vm.classes.size → zk_ch vm c i = some x → ownMethod vm name desc x = none := fun i x hi hx => zk_chNone (vm.classes.size + 1) 0 c rfl hL i x (Nat.zero_le _) (by omega) hx
    have hsup : superclassMethods vm c name desc = [] := by
      unfold superclassMethods
      rw [List.filterMap_eq_nil_iff]
      intro a ha
      obtain ⟨i, h1, h2⟩ := zk_chMem (vm.classes.size + 1) 0 c rfl ha
      rcases Nat.lt_or_ge i (vm.classes.size + 1) with g | g
      · exact hown i a (by omega) h2
      · have e : i = vm.classes.size + 1 := by omega
        subst e
        obtain ⟨i2, g1, g2⟩ := zk_chFix h2
        exact hown i2 a g1 g2
    have h0 : ownMethod vm name desc c = none := hown 0 c (Nat.zero_le _) rfl
    have hss : selectInSuperclasses vm m name desc (vm.classes.size + 1) c = none := by
      cases hq : selectInSuperclasses vm m name desc (vm.classes.size + 1) c with
      | none => rfl
      | some z =>
        obtain ⟨i, x, h1, h2, h3⟩ := zk_chSel (vm.classes.size + 1) 0 c rfl hq
        rw [hown i x (by omega) h2] at h3
        cases h3
    unfold selectMethod at hsel
    simp only [hm, hpv, hmn, hmd, hss, hmk, hmi, Bool.false_eq_true, if_false, Option.any_some, Bool.not_true, Bool.and_false] at hsel
    have hz : ((vm.classes[c]?.bind (·.findMethod name desc)).map fun i => (⟨c, i⟩ : MethodId)) = none := h0
    unfold lookupSpecial
    simp only [hz, hsup, Option.toList_none, List.filter_nil, List.append_nil, List.find?_nil]
    split at hsel
    · cases hsel
    · exact hsel
theorem zk_landsPub {args : Array Value} {s : State} {cls : String} {x y : MethodName} (h : (Cond.landsInDefault cls x y).before args s = true) {r : MethodId} {rm : Method} (hr : s.methodFound? x.cls x.name x.desc = some r) (hrm : s.vm.method? r = some rm) : rm.isPrivate = false := by
  simp only [Cond.before, Cond.holds, Cond.value] at h
  cases hc : s.vm.findClass cls with
  | none => simp [hc] at h
  | some c =>
  cases hm : s.methodNamed? y with
  | none => simp [hc, hr, hm] at h
  | some m =>
  simp only [hc, hr, hm, hrm, Option.map_some, beq_iff_eq, Option.some.injEq] at h
  split at h
  · simp only [Bool.and_eq_true, decide_eq_true_eq, Bool.not_eq_true', Option.any_eq_true] at h
    exact h.1.1.2
  · cases h
section ZSPEC
variable {p : Program} {l : Launch} {e : Env} {R : Room} {s : State} {m : MethodId} {args : Array Value} {below : List Frame} {meth : Method} {c : Code} {H : Heap} {locs : List Loc} {cells slots : Nat} {Q : State → Prop}
variable {cc : ByteArray} {pc : Nat} {ls : Array Slot} {rest st0 : List Value} {A : Nat → Prop} {H0 : Heap} {C : String} {b : Nat} {r : Int}
variable {y : MethodName} {bytes : ByteArray} {maxL nL n index : Nat} {ret : Option FieldType} {wd : List Cond} {rm : Room} {own : String} {As : List Value} {Ts : List Cond}
theorem zk_callSDg {T : State} {locs : List Loc} {cells slots : Nat} (X : Stand p l e R s m args below meth c T locs cells slots) (hexec : p.tables.exec = Jvm.exec) {xc : String}
    (hown : s.vm.findClass own = some m.cls) (hlink : (Cond.methodLink own index ⟨xc, y.name, y.desc⟩).before args s = true) (hsame : (Cond.sameMethod xc y.cls y.name y.desc).before args s = true) (hsup : (Cond.superclass own xc).before args s = true) (hland : (Cond.landsInDefault xc ⟨xc, y.name, y.desc⟩ y).before args s = true)
    (hinst : (Cond.instanceMethod y).before args s = true) (hcode : (Cond.code y bytes maxL ret).before args s = true) (hno : y.name ≠ "<init>")
    {W : Nat} {Pre : Pt → Array Value → Prop} {Post : Pt → Array Value → Option Value → Pt → Prop} (hK : Back l R p e below s args y 3 W Pre Post)
    {b : Addr} {cellB : Cell} {kB : Class} (hcell : T.heap[b]? = some cellB) (hobj : cellB.vm.isStatics = false) (hkB : s.vm.classes[cellB.cls]? = some kB)
    {g : JFrame} (hg : g.method = m) (hsize : g.locals.size = c.maxLocals) {argsL rest : List Value} (hlen : ∀ sig, parseMethodDescriptor y.desc = some sig → argsL.length = sig.parameters.length)
    (hstack : g.stack = argsL.reverse ++ .ref b :: rest) (hW : 2 * g.monitorRoom + (rest.map fun v => v.category).sum ≤ W) (hdg : decode c.code g.pc = .ok (.invokespecial index, 3))
    (hpre : ∀ vm₁, s.WarmedH vm₁ → Pre ⟨T.setVm vm₁, locs, cells, slots⟩ (Value.ref b :: argsL).toArray) :
    ∃ (v : Option Value) (vm₁ : Vm) (B : Pt), s.WarmedH vm₁ ∧ Stand p l e R s m args below meth c B.U B.locs B.cells B.slots ∧ Post ⟨T.setVm vm₁, locs, cells, slots⟩ (Value.ref b :: argsL).toArray v B ∧
      ∀ target, Steps p.tables e below (B.U.setTop { g with pc := g.pc + 3, stack := v.toList ++ rest }) target → Steps p.tables e below (T.setTop g) target := by
  obtain ⟨mk, methM, hnamed, hmethM, hstM, habM⟩ := Cond.instanceMethod_spec hinst
  obtain ⟨methM', cM, hmethM', -, -, -, -, -, -, hsigM⟩ := Cond.code_spec hnamed hcode
  cases hmethM.symm.trans hmethM'
  obtain ⟨ps, dk, kp, hps, hdk, hkp, hsuper, -, -, hnid⟩ := Cond.superclass_spec hown hsup
  obtain ⟨cn, ck, r1, hcn, hck, hni, hf, hn1⟩ := Cond.sameMethod_found hsame
  have hn : s.methodNamed? ⟨y.cls, y.name, y.desc⟩ = some mk := hnamed
  cases hn.symm.trans hn1
  cases hps.symm.trans hcn
  have hpl : e.platform.magicAccessors = ({} : Platform).magicAccessors := by rw [X.admits.platform]
  obtain ⟨ci, hl, hright⟩ := Cond.methodLink_specUp (x := ⟨xc, y.name, y.desc⟩) hown hcn hck hni hf hlink e.platform hpl (by rw [X.admits.platform])
  obtain ⟨hrn, hrd⟩ := name_of_methodNamed hn hmethM
  obtain ⟨dk₀, cfile, nt, _, _, ck₀, _, _, hd₀, hcf, hcp, -, -, -, hc₀, -, hpoly, -⟩ := hl.here
  cases hdk.symm.trans hd₀
  cases hck.symm.trans hc₀
  have hup : s.vm.lookupUp ps y.name y.desc = some mk := ((State.methodFound?_class hcn hck hni hpoly mk).mp hf).1
  obtain ⟨c2, r2, m2, rm2, q1, q2, q3, q5, q4, ⟨mkc, hmkc, hmki⟩, -⟩ := Cond.landsInDefault_spec hland
  cases hcn.symm.trans q1
  cases hf.symm.trans q2
  cases hnamed.symm.trans q3
  have hpv := zk_landsPub hland hf q5
  cases hmethM.symm.trans q5
  have hfound0 : lookupSpecial s.vm ps y.name y.desc = .method mk := zk_lookSp hck hni hup hmethM hstM hpv hrn hrd hmkc hmki q4
  subst hg
  obtain ⟨vm', hW', st⟩ := Steps.invokeSuperColdArgs (tb := p.tables) (e := e) (s₀ := s) (U := T) (f := g) (args := argsL) (rest := rest) (a := b) (cell := cellB) (m := mk) X.here hexec hdg X.warmed hl hright hdk hcf hcp hmethM hck
    (by rw [hrn]; simp [hno]) hstM (by rw [hrn, hrd, hsuper]; simpa using hfound0) hnid hmkc habM (hlen _ hsigM) hstack hcell (fun z h => by rw [h] at hobj; cases hobj) hkB
  have X₁ := X.noted hW'
  obtain ⟨v, B, X', hpost, hsteps⟩ := hK g.method meth c ⟨T.setVm vm', locs, cells, slots⟩ { g with stack := rest } (.invokespecial index) mk (Value.ref b :: argsL).toArray X₁ rfl hsize hdg hW (X₁.named hnamed) (hpre vm' X₁.warmed)
  exact ⟨v, vm', B, X₁.warmed, X', hpost, fun target h => st _ (by rw [doInvoke_state]; exact hsteps.trans h)⟩
theorem zk_callSD {xc : String} (S : CallFix p m c cc nL s args Ts own) (hM : zk_MP l y wd rm C b (.ref b :: As) r) (hl1 : (Cond.methodLink own index ⟨xc, y.name, y.desc⟩).before args s = true) (hl2 : (Cond.sameMethod xc y.cls y.name y.desc).before args s = true) (hl3 : (Cond.superclass own xc).before args s = true) (hl4 : (Cond.landsInDefault xc ⟨xc, y.name, y.desc⟩ y).before args s = true)
    (hl5 : (Cond.instanceMethod y).before args s = true) (hini : (Cond.initialized y.cls).before args s = true) (hcode : (Cond.code y bytes maxL ret).before args s = true) (hws : ∀ w ∈ wd, ∀ (a' : Array Value) (U : State), s.WarmedH U.vm → w.before a' U = true) (hcw : Cond.code y bytes maxL ret ∈ wd) (hrm0 : rm.cells = 0) (hrs : rm.slots = 0)
    (hd : y.name ≠ "<init>" ∧ (parseMethodDescriptor y.desc).map (fun d => d.parameters.length) = some n) (hRm : rm.frames + 1 ≤ R.frames ∧ 8 + (maxL + 11) + rm.locals ≤ R.locals) (hX : zk_X s) (hrc : zk_rc C b s H) (hS : va_S A H0 H locs)
    (hn : As.length = n) (hls : ls.size = nL) (hst : st0 = As.reverse ++ .ref b :: rest) (hR : (rest.map fun v => v.category).sum ≤ 8) (hdg : decode cc pc = .ok (.invokespecial index, 3)) (hcs : cells ≤ R.cells ∧ slots ≤ R.slots)
    (kk : ∀ (H1 : Heap) (locs1 : List Loc), zk_rc C b s H1 → va_S A H0 H1 locs1 → W p l e R s m args below meth c H1 locs1 cells slots Q (F0 m (pc + 3) ls (zk_I r :: rest))) : W p l e R s m args below meth c H locs cells slots Q (F0 m pc ls st0) := by
  have hK : Back l R p e below s args y 3 8 (PreOf R 0 0 (va_Pc (.ref b :: As) (fun U => zk_rc C b U U.heap ∧ zk_X U))) (PostOf (zk_Q (some (zk_I r)) (fun _ => True) (fun _ => False)) 0 0 (fun _ => False)) := back_of (bytes := bytes) (maxL := maxL) (ret := ret) hM zk_blindP hrm0 hrs hRm.1 hRm.2 hws hcw (fun a' U hW => word_at hW (Or.inl (by first | rfl | simp [Cond.onTables, Cond.keeps, Cond.steady])) hini)
  obtain ⟨hx, hb, hml, ho, -⟩ := S
  have hlen : ∀ sig, parseMethodDescriptor y.desc = some sig → n = sig.parameters.length := fun sig h => by
    have h2 := hd.2
    rw [h] at h2
    exact (Option.some.inj h2).symm
  have hrc0 := hrc
  obtain ⟨⟨cellB, hcB, hoB, hclB⟩, cC, hfc, kB, hkB, -⟩ := hrc0
  cases hfc.symm.trans hclB
  have hrun : va_Run p l e R s m args below meth c H locs cells slots 0 0 (F0 m pc ls st0) rest (zk_Q (some (zk_I r)) (fun _ => True) (fun _ => False) (Value.ref b :: As).toArray) (fun _ => False) := by
    intro T hT X
    obtain ⟨v, vm₁, ⟨U', l2, c2, s2⟩, hW₁, X', ⟨g', mk, t, L, e1, e2, hq, h1, hL, h2, h3⟩, st⟩ := zk_callSDg X hx (bytes := bytes) (maxL := maxL) (ret := ret) ho hl1 hl2 hl3 hl4 hl5 hcode hd.1 hK (by rw [hT]; exact hcB) hoB hkB rfl (hls.trans hml.symm) (argsL := As) (rest := rest) (fun sig h => hn.trans (hlen sig h)) hst (lv_room hR) (by rw [hb]; exact hdg)
      (fun vm₁ hW₁ => ⟨hcs.1, hcs.2, zk_preP hX hrc (T.setVm vm₁) hT hW₁⟩)
    dsimp only [Pt.U, Pt.locs, Pt.cells, Pt.slots] at X' e1 e2 h1 h2 h3 st
    subst h1; subst h2; subst h3
    exact ⟨v, (T.setVm vm₁).calling g' mk (Value.ref b :: As).toArray, t, U', L, hT, X', hL, e1, e2, hq, st⟩
  exact zk_call hrun hS (fun q _ z => z.elim) (fun q z => z.elim) (fun t H1 locs1 ht hB _ hk hS1 => kk H1 locs1 (hrc.kept (fun q hq => hk q hq (fun z => z))) hS1)
end ZSPEC
