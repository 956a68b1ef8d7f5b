abbrev zw_X1_in_rm : Room := { frames := 1, cells := 0, slots := 0, locals := 32 }
abbrev zw_X1_in_vs (p0 p2 p4 : Int) : List Value := [zk_L p0, zk_L p2, zk_L p4]
set_option maxHeartbeats 4000000 in
set_option maxRecDepth 100000 in
theorem zw_X1_in (l : Launch) (p0 p2 p4 : Int) (r : Int) (hf : zm_in p0 p2 p4 = some r) : zk_MS l yX1_in (ws_ yX1_in cX1_in 6 (Option.some Jvm.ClassFile.FieldType.boolean)) zw_X1_in_rm (zw_X1_in_vs p0 p2 p4) (some (zk_I r)) := by
  refine zk_startS (by decide +kernel) (Nat.le_of_ble_eq_true rfl) (fun p e s m below meth c H locs ls hx hb hr hlk hml hown hts hS hl => ?_)
  have hl : lv_has ls 6 [(0, zk_L p0), (2, zk_L p2), (4, zk_L p4)] := hl
  have hown : s.vm.findClass RX1 = some m.cls := hown
  have hf : zm_in p0 p2 p4 = some r := hf
  refine zk_lloadn hx hb dX1_in_0 rfl (lv_at hl 0 rfl) ?_
  refine zk_lloadn hx hb dX1_in_1 rfl (lv_at hl 1 rfl) ?_
  refine zk_lcmp_lt (tgt := 17) hx hb dX1_in_2 dX1_in_3 (by decide) hf (fun h => h) (fun hf => ?_) (fun hf => ?_)
  · refine zk_iconst hx hb dX1_in_17 ?_
    exact zk_zret hx hb hr hlk (Or.inl rfl) (Option.some.inj hf) (fun _ _ => trivial) hS dX1_in_18
  · refine zk_lloadn hx hb dX1_in_6 rfl (lv_at hl 0 rfl) ?_
    refine zk_lload hx hb dX1_in_7 (lv_at hl 2 rfl) ?_
    refine zk_lcmp_gt (tgt := 17) hx hb dX1_in_9 dX1_in_10 (by decide) hf (fun h => h) (fun hf => ?_) (fun hf => ?_)
    · refine zk_iconst hx hb dX1_in_17 ?_
      exact zk_zret hx hb hr hlk (Or.inl rfl) (Option.some.inj hf) (fun _ _ => trivial) hS dX1_in_18
    · refine zk_iconst hx hb dX1_in_13 ?_
      refine lv_goto (tgt := 18) hx hb dX1_in_14 (by decide) ?_
      exact zk_zret hx hb hr hlk (Or.inr rfl) (Option.some.inj hf) (fun _ _ => trivial) hS dX1_in_18
abbrev zw_X1_isRow_rm : Room := { frames := 2, cells := 0, slots := 0, locals := 57 }
abbrev zw_X1_isRow_vs (p0 : Int) : List Value := [zk_I p0]
set_option maxHeartbeats 4000000 in
set_option maxRecDepth 100000 in
theorem zw_X1_isRow (l : Launch) (p0 : Int) (r : Int) (hf : zm_isRow p0 = some r) : zk_MS l yX1_isRow (ws_ yX1_isRow cX1_isRow 1 (Option.some Jvm.ClassFile.FieldType.boolean)) zw_X1_isRow_rm (zw_X1_isRow_vs p0) (some (zk_I r)) := by
  refine zk_startS (by decide +kernel) (Nat.le_of_ble_eq_true rfl) (fun p e s m below meth c H locs ls hx hb hr hlk hml hown hts hS hl => ?_)
  have hl : lv_has ls 1 [(0, zk_I p0)] := hl
  have hown : s.vm.findClass RX1 = some m.cls := hown
  have hf : zm_isRow p0 = some r := hf
  refine zk_iloadn hx hb dX1_isRow_0 rfl (lv_at hl 0 rfl) ?_
  refine zk_ri2l hx hb dX1_isRow_1 hf (fun hf => ?_)
  refine zk_lconst (v := 0) hx hb dX1_isRow_2 rfl ?_
  refine zk_ldc2 hx hb 5 hown (hts _ q1026) rfl dX1_isRow_3 ?_
  obtain ⟨v1, hq, hf⟩ := zk_bs hf
  refine zk_callS0 (As := [zk_L p0, zk_L 0, zk_L 5]) (rest := []) ⟨hx, hb, hml, hown, hts⟩ (zw_X1_in l p0 0 5 _ hq) (va_cwS 3 hts (lw_S q1027 q1028 q88 q1029) rfl rfl rfl (by decide +kernel) ⟨Nat.le_of_ble_eq_true rfl, Nat.le_of_ble_eq_true rfl⟩) hS rfl hl.1 rfl (Nat.le_of_ble_eq_true rfl) dX1_isRow_6 ⟨Nat.le_of_ble_eq_true rfl, Nat.le_of_ble_eq_true rfl⟩ (fun H locs hS => ?_)
  obtain ⟨hz, hf⟩ := zk_gs hf
  exact zk_zret hx hb hr hlk hz (Option.some.inj hf) (fun _ _ => trivial) hS dX1_isRow_9
abbrev zw_X1_find_rm : Room := { frames := 1, cells := 0, slots := 0, locals := 32 }
abbrev zw_X1_find_vs (o : Nat) (p1 : Int) : List Value := [.ref o, zk_I p1]
set_option maxHeartbeats 4000000 in
set_option maxRecDepth 100000 in
theorem zw_X1_find (l : Launch) {D : va_G} {o : Nat} {a : Nat → Nat} {dA : Nat → ClassId} {A : Nat → Prop} (hD : ∀ τ, va_D A (zm_P o a dA τ)) (p1 : Int) (σ : ZS) (r : Int) (σ' : ZS) (hf : zm_find p1 σ = some (r, σ')) : zk_MW l yX1_find (ws_ yX1_find cX1_find 2 (Option.some Jvm.ClassFile.FieldType.int)) zw_X1_find_rm D zk_cl (zk_ty dA) A (zw_X1_find_vs o p1) (zm_P o a dA σ) (zm_P o a dA σ') (some (zk_I r)) := by
  refine zk_startW (by decide +kernel) (Nat.le_of_ble_eq_true rfl) (fun p e s m below meth c H locs ls hx hb hr hlk hml hown hts hKX hP hS hl => ?_)
  have hl : lv_has ls 2 [(0, .ref o), (1, zk_I p1)] := hl
  have hK := hKX.1
  have hown : s.vm.findClass RX1 = some m.cls := hown
  have hf : zm_find p1 σ = some (r, σ') := hf
  refine lv_aload_n hx hb dX1_find_0 rfl (lv_at hl 0 rfl) ?_
  refine zk_iloadn hx hb dX1_find_1 rfl (lv_at hl 1 rfl) ?_
  refine zm_rput hx hb hts hown hK hP hD hS 10 (by decide) q959 rfl rfl rfl (zm_s10 _ _) hf dX1_find_2 (fun s1 H locs hf hP hS => ?_)
  refine lv_aload_n hx hb dX1_find_5 rfl (lv_at hl 0 rfl) ?_
  refine zm_rget hx hb hts hown hK hP 11 (by decide) q960 rfl dX1_find_6 ?_
  refine zk_iloadn hx hb dX1_find_9 rfl (lv_at hl 1 rfl) ?_
  refine lv_dup2_11 hx hb dX1_find_10 rfl rfl ?_
  refine zk_iald hx hb hK hP 7 0 rfl rfl (N := 6) ⟨by decide, by decide⟩ hf dX1_find_11 (fun hf => ?_)
  refine zk_iconst hx hb dX1_find_12 ?_
  refine zk_iadd hx hb dX1_find_13 ?_
  refine zk_iastN hx hb hK hP hD hS 7 0 11 rfl rfl (N := 6) ⟨by decide, by decide⟩ (zm_t11 _ _ _) hf dX1_find_14 (fun s2 H locs hf hP hS => ?_)
  refine zk_bipush hx hb dX1_find_15 (by decide) ?_
  exact zk_iret hx hb hr hlk (zk_p1 hf) (zk_pB hf hP) hS dX1_find_17
abbrev zw_X1_makeRow_rm : Room := { frames := 1, cells := 0, slots := 0, locals := 32 }
abbrev zw_X1_makeRow_vs (o : Nat) (p1 p2 : Int) : List Value := [.ref o, zk_I p1, zk_I p2]
set_option maxHeartbeats 4000000 in
set_option maxRecDepth 100000 in
theorem zw_X1_makeRow (l : Launch) {D : va_G} {o : Nat} {a : Nat → Nat} {dA : Nat → ClassId} {A : Nat → Prop} (hD : ∀ τ, va_D A (zm_P o a dA τ)) (N : Nat) (p1 p2 : Int) (σ : ZS) (r : Int) (σ' : ZS) (hf : zm_makeRow N p1 p2 σ = some (r, σ')) : zk_MW l yX1_makeRow (ws_ yX1_makeRow cX1_makeRow 4 (Option.none : Option Jvm.ClassFile.FieldType)) zw_X1_makeRow_rm D zk_cl (zk_ty dA) A (zw_X1_makeRow_vs o p1 p2) (zm_P o a dA σ) (zm_P o a dA σ') none := by
  refine zk_startW (by decide +kernel) (Nat.le_of_ble_eq_true rfl) (fun p e s m below meth c H locs ls hx hb hr hlk hml hown hts hKX hP hS hl => ?_)
  have hl : lv_has ls 4 [(0, .ref o), (1, zk_I p1), (2, zk_I p2)] := hl
  have hK := hKX.1
  have hown : s.vm.findClass RX1 = some m.cls := hown
  have hf : zm_makeRow N p1 p2 σ = some (r, σ') := hf
  have hJ33 : ∀ (s0 : ZS) (H : Heap) (locs : List Loc) (ls : Array Slot), zm_makeRow_j33 N  s0 = some (r, σ') → lv_has ls 4 [] → va_P D zk_cl (zm_P o a dA s0) H → va_S A s.heap H locs → W p l e zw_X1_makeRow_rm s m (zw_X1_makeRow_vs o p1 p2).toArray below meth c H locs 0 0 (MQ below (zk_Q none (fun t => va_P D zk_cl (zm_P o a dA σ') t.heap) A) (zw_X1_makeRow_vs o p1 p2).toArray s 0 0 A) (F0 m 33 ls []) := by
    intro s0 H locs ls hf hl hP hS
    exact zk_vret hx hb hr hlk (zk_pB hf hP) hS dX1_makeRow_33
  have hL9 : ∀ (n : Nat) (x1 x3 : Int) (s0 : ZS) (H : Heap) (locs : List Loc) (ls : Array Slot), zk_b (zk_loop (α := Int × ZS) (β := ZS) n (fun a => zm_makeRow_b9 N x1 a.1 a.2) (x3, s0)) (fun e => zm_makeRow_j33 N e) = some (r, σ') → lv_has ls 4 [(0, .ref o), (1, zk_I x1), (3, zk_I x3)] → va_P D zk_cl (zm_P o a dA s0) H → va_S A s.heap H locs → W p l e zw_X1_makeRow_rm s m (zw_X1_makeRow_vs o p1 p2).toArray below meth c H locs 0 0 (MQ below (zk_Q none (fun t => va_P D zk_cl (zm_P o a dA σ') t.heap) A) (zw_X1_makeRow_vs o p1 p2).toArray s 0 0 A) (F0 m 9 ls []) := by
    intro n
    induction n with
    | zero => intro x1 x3 s0 H locs ls hf; exact (zk_l0 hf).elim
    | succ n ih9 =>
      intro x1 x3 s0 H locs ls hf hl hP hS
      obtain ⟨c9, hf, hc9⟩ := zk_ls hf
      refine zk_iloadn hx hb dX1_makeRow_9 rfl (lv_at hl 2 rfl) ?_
      refine zk_bipush hx hb dX1_makeRow_10 (by decide) ?_
      refine zk_icmp_ge (tgt := 33) hx hb dX1_makeRow_12 (by decide) hf (fun h => ⟨h, by decide⟩) (fun hf => ?_) (fun hf => ?_)
      · obtain rfl := zk_so hf
        exact hJ33 _ H locs ls hc9 (lv_sub hl [] rfl) hP hS
      · refine lv_aload_n hx hb dX1_makeRow_15 rfl (lv_at hl 0 rfl) ?_
        refine zm_rget hx hb hts hown hK hP 4 (by decide) q953 rfl dX1_makeRow_16 ?_
        refine zk_bipush hx hb dX1_makeRow_19 (by decide) ?_
        refine zk_iloadn hx hb dX1_makeRow_21 rfl (lv_at hl 1 rfl) ?_
        refine zk_imul hx hb dX1_makeRow_22 ?_
        refine zk_iloadn hx hb dX1_makeRow_23 rfl (lv_at hl 2 rfl) ?_
        refine zk_iadd hx hb dX1_makeRow_24 ?_
        refine zk_iconst hx hb dX1_makeRow_25 ?_
        refine zk_iastN hx hb hK hP hD hS 4 0 4 rfl rfl (N := 240) ⟨by decide, by decide⟩ (zm_t4 _ _ _) hf dX1_makeRow_26 (fun s2 H locs hf hP hS => ?_)
        refine zk_iincN (lv' := fun x3_3 => [(3, zk_I x3_3), (0, .ref o), (1, zk_I x1)]) hx hb dX1_makeRow_27 hl (k := 2) rfl (by decide) (fun _ => rfl) hf (fun x3_3 hf ls hl => ?_)
        refine lv_goto (tgt := 9) hx hb dX1_makeRow_30 (by decide) ?_
        obtain rfl := zk_so hf
        exact ih9 _ _ _ H locs ls hc9 (lv_sub hl [1, 2, 0] rfl) hP hS
  refine lv_aload_n hx hb dX1_makeRow_0 rfl (lv_at hl 0 rfl) ?_
  refine zm_rget hx hb hts hown hK hP 3 (by decide) q952 rfl dX1_makeRow_1 ?_
  refine zk_iloadn hx hb dX1_makeRow_4 rfl (lv_at hl 1 rfl) ?_
  refine zk_iloadn hx hb dX1_makeRow_5 rfl (lv_at hl 2 rfl) ?_
  refine zk_iastN hx hb hK hP hD hS 3 0 3 rfl rfl (N := 6) ⟨by decide, by decide⟩ (zm_t3 _ _ _) hf dX1_makeRow_6 (fun s1 H locs hf hP hS => ?_)
  refine zk_iconst hx hb dX1_makeRow_7 ?_
  refine lv_istore_n (lv' := [(3, zk_I 0), (0, .ref o), (1, zk_I p1), (2, zk_I p2)]) hx hb dX1_makeRow_8 rfl hl (by decide) rfl (fun ls hl => ?_)
  exact hL9 N _ _ _ H locs ls hf (lv_sub hl [1, 2, 0] rfl) hP hS
abbrev zw_X1_row_rm : Room := { frames := 3, cells := 0, slots := 0, locals := 77 }
abbrev zw_X1_row_vs (o : Nat) (p1 p2 : Int) : List Value := [.ref o, zk_I p1, zk_I p2]
set_option maxHeartbeats 4000000 in
set_option maxRecDepth 100000 in
theorem zw_X1_row (l : Launch) {D : va_G} {o : Nat} {a : Nat → Nat} {dA : Nat → ClassId} {A : Nat → Prop} (hD : ∀ τ, va_D A (zm_P o a dA τ)) (N : Nat) (p1 p2 : Int) (σ : ZS) (r : Int) (σ' : ZS) (hf : zm_row N p1 p2 σ = some (r, σ')) : zk_MW l yX1_row (ws_ yX1_row cX1_row 3 (Option.some Jvm.ClassFile.FieldType.int)) zw_X1_row_rm D zk_cl (zk_ty dA) A (zw_X1_row_vs o p1 p2) (zm_P o a dA σ) (zm_P o a dA σ') (some (zk_I r)) := by
  refine zk_startW (by decide +kernel) (Nat.le_of_ble_eq_true rfl) (fun p e s m below meth c H locs ls hx hb hr hlk hml hown hts hKX hP hS hl => ?_)
  have hl : lv_has ls 3 [(0, .ref o), (1, zk_I p1), (2, zk_I p2)] := hl
  have hK := hKX.1
  have hown : s.vm.findClass RX1 = some m.cls := hown
  have hf : zm_row N p1 p2 σ = some (r, σ') := hf
  refine zk_iloadn hx hb dX1_row_0 rfl (lv_at hl 1 rfl) ?_
  obtain ⟨v1, hq, hf⟩ := zk_bs hf
  refine zk_callSS (As := [zk_I p1]) (rest := []) ⟨hx, hb, hml, hown, hts⟩ (zw_X1_isRow l p1 _ hq) (va_cwS 1 hts (lw_S q1023 q1024 q88 q1025) rfl rfl rfl (by decide +kernel) ⟨Nat.le_of_ble_eq_true rfl, Nat.le_of_ble_eq_true rfl⟩) hP hS rfl hl.1 rfl (Nat.le_of_ble_eq_true rfl) dX1_row_1 ⟨Nat.le_of_ble_eq_true rfl, Nat.le_of_ble_eq_true rfl⟩ (fun H locs hP hS => ?_)
  refine zk_if_eq (tgt := 13) hx hb dX1_row_4 (by decide) hf (fun h => h) (fun hf => ?_) (fun hf => ?_)
  · refine zk_iconst hx hb dX1_row_13 ?_
    exact zk_iret hx hb hr hlk (zk_p1 hf) (zk_pB hf hP) hS dX1_row_14
  · refine zk_iloadn hx hb dX1_row_7 rfl (lv_at hl 2 rfl) ?_
    refine zk_bipush hx hb dX1_row_8 (by decide) ?_
    refine zk_icmp_le (tgt := 15) hx hb dX1_row_10 (by decide) hf (fun h => ⟨h, by decide⟩) (fun hf => ?_) (fun hf => ?_)
    · refine zk_iloadn hx hb dX1_row_15 rfl (lv_at hl 2 rfl) ?_
      refine zk_if_ge (tgt := 25) hx hb dX1_row_16 (by decide) hf (fun h => h) (fun hf => ?_) (fun hf => ?_)
      · refine lv_aload_n hx hb dX1_row_25 rfl (lv_at hl 0 rfl) ?_
        refine zk_iloadn hx hb dX1_row_26 rfl (lv_at hl 1 rfl) ?_
        refine zk_iloadn hx hb dX1_row_27 rfl (lv_at hl 2 rfl) ?_
        obtain ⟨v2, s3, hq, hf⟩ := zk_b2s hf
        refine zk_callVW (As := [zk_I p1, zk_I p2]) (rest := []) ⟨hx, hb, hml, hown, hts⟩ (zw_X1_makeRow l hD N p1 p2 σ _ _ hq) (cwV 2 hts (lw_V q1034 q1036 qs41 q88 q1037) rfl rfl rfl (by decide +kernel) ⟨Nat.le_of_ble_eq_true rfl, Nat.le_of_ble_eq_true rfl⟩) hKX hP hS (va_recv hK hP (ci := 1) (q0 := 0) rfl rfl) rfl hl.1 rfl (Nat.le_of_ble_eq_true rfl) dX1_row_28 ⟨Nat.le_of_ble_eq_true rfl, Nat.le_of_ble_eq_true rfl⟩ (fun H locs hP hS => ?_)
        refine zk_iloadn hx hb dX1_row_31 rfl (lv_at hl 2 rfl) ?_
        exact zk_iret hx hb hr hlk (zk_p1 hf) (zk_pB hf hP) hS dX1_row_32
      · refine lv_aload_n hx hb dX1_row_19 rfl (lv_at hl 0 rfl) ?_
        refine zk_iconst hx hb dX1_row_20 ?_
        obtain ⟨v4, s5, hq, hf⟩ := zk_b2s hf
        refine zk_callVW (As := [zk_I 5]) (rest := []) ⟨hx, hb, hml, hown, hts⟩ (zw_X1_find l hD 5 σ _ _ hq) (cwV 1 hts (lw_V q1030 q1032 qs40 q88 q1033) rfl rfl rfl (by decide +kernel) ⟨Nat.le_of_ble_eq_true rfl, Nat.le_of_ble_eq_true rfl⟩) hKX hP hS (va_recv hK hP (ci := 1) (q0 := 0) rfl rfl) rfl hl.1 rfl (Nat.le_of_ble_eq_true rfl) dX1_row_21 ⟨Nat.le_of_ble_eq_true rfl, Nat.le_of_ble_eq_true rfl⟩ (fun H locs hP hS => ?_)
        exact zk_iret hx hb hr hlk (zk_p1 hf) (zk_pB hf hP) hS dX1_row_24
    · refine zk_iconst hx hb dX1_row_13 ?_
      exact zk_iret hx hb hr hlk (zk_p1 hf) (zk_pB hf hP) hS dX1_row_14
abbrev zw_X1_refused_rm : Room := { frames := 3, cells := 0, slots := 0, locals := 77 }
abbrev zw_X1_refused_vs (o : Nat) (p1 p2 : Int) : List Value := [.ref o, zk_I p1, zk_I p2]
set_option maxHeartbeats 4000000 in
set_option maxRecDepth 100000 in
theorem zw_X1_refused (l : Launch) {D : va_G} {o : Nat} {a : Nat → Nat} {dA : Nat → ClassId} {A : Nat → Prop} (hD : ∀ τ, va_D A (zm_P o a dA τ)) (p1 p2 : Int) (σ : ZS) (r : Int) (σ' : ZS) (hf : zm_refused p1 p2 σ = some (r, σ')) : zk_MW l yX1_refused (ws_ yX1_refused cX1_refused 3 (Option.some Jvm.ClassFile.FieldType.int)) zw_X1_refused_rm D zk_cl (zk_ty dA) A (zw_X1_refused_vs o p1 p2) (zm_P o a dA σ) (zm_P o a dA σ') (some (zk_I r)) := by
  refine zk_startW (by decide +kernel) (Nat.le_of_ble_eq_true rfl) (fun p e s m below meth c H locs ls hx hb hr hlk hml hown hts hKX hP hS hl => ?_)
  have hl : lv_has ls 3 [(0, .ref o), (1, zk_I p1), (2, zk_I p2)] := hl
  have hK := hKX.1
  have hown : s.vm.findClass RX1 = some m.cls := hown
  have hf : zm_refused p1 p2 σ = some (r, σ') := hf
  refine zk_iloadn hx hb dX1_refused_0 rfl (lv_at hl 1 rfl) ?_
  obtain ⟨v1, hq, hf⟩ := zk_bs hf
  refine zk_callSS (As := [zk_I p1]) (rest := []) ⟨hx, hb, hml, hown, hts⟩ (zw_X1_isRow l p1 _ hq) (va_cwS 1 hts (lw_S q1023 q1024 q88 q1025) rfl rfl rfl (by decide +kernel) ⟨Nat.le_of_ble_eq_true rfl, Nat.le_of_ble_eq_true rfl⟩) hP hS rfl hl.1 rfl (Nat.le_of_ble_eq_true rfl) dX1_refused_1 ⟨Nat.le_of_ble_eq_true rfl, Nat.le_of_ble_eq_true rfl⟩ (fun H locs hP hS => ?_)
  refine zk_if_ne (tgt := 11) hx hb dX1_refused_4 (by decide) hf (fun h => h) (fun hf => ?_) (fun hf => ?_)
  · refine lv_aload_n hx hb dX1_refused_11 rfl (lv_at hl 0 rfl) ?_
    refine zm_rget hx hb hts hown hK hP 3 (by decide) q952 rfl dX1_refused_12 ?_
    refine zk_iloadn hx hb dX1_refused_15 rfl (lv_at hl 1 rfl) ?_
    refine zk_iald hx hb hK hP 3 0 rfl rfl (N := 6) ⟨by decide, by decide⟩ hf dX1_refused_16 (fun hf => ?_)
    refine zk_if_ge (tgt := 28) hx hb dX1_refused_17 (by decide) hf (fun h => h) (fun hf => ?_) (fun hf => ?_)
    · refine zk_iloadn hx hb dX1_refused_28 rfl (lv_at hl 2 rfl) ?_
      refine zk_ri2l hx hb dX1_refused_29 hf (fun hf => ?_)
      refine zk_lconst (v := 0) hx hb dX1_refused_30 rfl ?_
      refine lv_aload_n hx hb dX1_refused_31 rfl (lv_at hl 0 rfl) ?_
      refine zm_rget hx hb hts hown hK hP 3 (by decide) q952 rfl dX1_refused_32 ?_
      refine zk_iloadn hx hb dX1_refused_35 rfl (lv_at hl 1 rfl) ?_
      refine zk_iald hx hb hK hP 3 0 rfl rfl (N := 6) ⟨by decide, by decide⟩ hf dX1_refused_36 (fun hf => ?_)
      refine zk_iconst hx hb dX1_refused_37 ?_
      refine zk_isub hx hb dX1_refused_38 ?_
      refine zk_ri2l hx hb dX1_refused_39 hf (fun hf => ?_)
      obtain ⟨v2, hq, hf⟩ := zk_bs hf
      refine zk_callSS (As := [zk_L p2, zk_L 0, zk_L (σ 3 p1 - 1)]) (rest := []) ⟨hx, hb, hml, hown, hts⟩ (zw_X1_in l p2 0 (σ 3 p1 - 1) _ hq) (va_cwS 3 hts (lw_S q1027 q1028 q88 q1029) rfl rfl rfl (by decide +kernel) ⟨Nat.le_of_ble_eq_true rfl, Nat.le_of_ble_eq_true rfl⟩) hP hS rfl hl.1 rfl (Nat.le_of_ble_eq_true rfl) dX1_refused_40 ⟨Nat.le_of_ble_eq_true rfl, Nat.le_of_ble_eq_true rfl⟩ (fun H locs hP hS => ?_)
      refine zk_if_eq (tgt := 50) hx hb dX1_refused_43 (by decide) hf (fun h => h) (fun hf => ?_) (fun hf => ?_)
      · refine lv_aload_n hx hb dX1_refused_50 rfl (lv_at hl 0 rfl) ?_
        refine zk_iconst hx hb dX1_refused_51 ?_
        obtain ⟨v3, s4, hq, hf⟩ := zk_b2s hf
        refine zk_callVW (As := [zk_I 2]) (rest := []) ⟨hx, hb, hml, hown, hts⟩ (zw_X1_find l hD 2 σ _ _ hq) (cwV 1 hts (lw_V q1030 q1032 qs40 q88 q1033) rfl rfl rfl (by decide +kernel) ⟨Nat.le_of_ble_eq_true rfl, Nat.le_of_ble_eq_true rfl⟩) hKX hP hS (va_recv hK hP (ci := 1) (q0 := 0) rfl rfl) rfl hl.1 rfl (Nat.le_of_ble_eq_true rfl) dX1_refused_52 ⟨Nat.le_of_ble_eq_true rfl, Nat.le_of_ble_eq_true rfl⟩ (fun H locs hP hS => ?_)
        exact zk_iret hx hb hr hlk (zk_p1 hf) (zk_pB hf hP) hS dX1_refused_55
      · refine zk_iconst hx hb dX1_refused_46 ?_
        refine lv_goto (tgt := 55) hx hb dX1_refused_47 (by decide) ?_
        exact zk_iret hx hb hr hlk (zk_p1 hf) (zk_pB hf hP) hS dX1_refused_55
    · refine lv_aload_n hx hb dX1_refused_20 rfl (lv_at hl 0 rfl) ?_
      refine zk_iconst hx hb dX1_refused_21 ?_
      obtain ⟨v5, s6, hq, hf⟩ := zk_b2s hf
      refine zk_callVW (As := [zk_I 1]) (rest := []) ⟨hx, hb, hml, hown, hts⟩ (zw_X1_find l hD 1 σ _ _ hq) (cwV 1 hts (lw_V q1030 q1032 qs40 q88 q1033) rfl rfl rfl (by decide +kernel) ⟨Nat.le_of_ble_eq_true rfl, Nat.le_of_ble_eq_true rfl⟩) hKX hP hS (va_recv hK hP (ci := 1) (q0 := 0) rfl rfl) rfl hl.1 rfl (Nat.le_of_ble_eq_true rfl) dX1_refused_22 ⟨Nat.le_of_ble_eq_true rfl, Nat.le_of_ble_eq_true rfl⟩ (fun H locs hP hS => ?_)
      refine lv_goto (tgt := 55) hx hb dX1_refused_25 (by decide) ?_
      exact zk_iret hx hb hr hlk (zk_p1 hf) (zk_pB hf hP) hS dX1_refused_55
  · refine zk_iconst hx hb dX1_refused_7 ?_
    refine lv_goto (tgt := 55) hx hb dX1_refused_8 (by decide) ?_
    exact zk_iret hx hb hr hlk (zk_p1 hf) (zk_pB hf hP) hS dX1_refused_55
abbrev zw_X1_tell_rm : Room := { frames := 1, cells := 0, slots := 0, locals := 32 }
abbrev zw_X1_tell_vs (o : Nat) (p1 : Int) : List Value := [.ref o, zk_I p1]
set_option maxHeartbeats 4000000 in
set_option maxRecDepth 100000 in
theorem zw_X1_tell (l : Launch) {D : va_G} {o : Nat} {a : Nat → Nat} {dA : Nat → ClassId} {A : Nat → Prop} (hD : ∀ τ, va_D A (zm_P o a dA τ)) (p1 : Int) (σ : ZS) (r : Int) (σ' : ZS) (hf : zm_tell p1 σ = some (r, σ')) : zk_MW l yX1_tell (ws_ yX1_tell cX1_tell 2 (Option.some Jvm.ClassFile.FieldType.int)) zw_X1_tell_rm D zk_cl (zk_ty dA) A (zw_X1_tell_vs o p1) (zm_P o a dA σ) (zm_P o a dA σ') (some (zk_I r)) := by
  refine zk_startW (by decide +kernel) (Nat.le_of_ble_eq_true rfl) (fun p e s m below meth c H locs ls hx hb hr hlk hml hown hts hKX hP hS hl => ?_)
  have hl : lv_has ls 2 [(0, .ref o), (1, zk_I p1)] := hl
  have hK := hKX.1
  have hown : s.vm.findClass RX1 = some m.cls := hown
  have hf : zm_tell p1 σ = some (r, σ') := hf
  refine lv_aload_n hx hb dX1_tell_0 rfl (lv_at hl 0 rfl) ?_
  refine zk_iloadn hx hb dX1_tell_1 rfl (lv_at hl 1 rfl) ?_
  refine zm_rput hx hb hts hown hK hP hD hS 7 (by decide) q956 rfl rfl rfl (zm_s7 _ _) hf dX1_tell_2 (fun s1 H locs hf hP hS => ?_)
  refine zk_iconst hx hb dX1_tell_5 ?_
  exact zk_iret hx hb hr hlk (zk_p1 hf) (zk_pB hf hP) hS dX1_tell_6
abbrev zw_X1_lay_rm : Room := { frames := 4, cells := 0, slots := 0, locals := 99 }
abbrev zw_X1_lay_vs (o : Nat) (p1 p2 p3 : Int) : List Value := [.ref o, zk_I p1, zk_I p2, zk_I p3]
set_option maxHeartbeats 4000000 in
set_option maxRecDepth 100000 in
theorem zw_X1_lay (l : Launch) {D : va_G} {o : Nat} {a : Nat → Nat} {dA : Nat → ClassId} {A : Nat → Prop} (hD : ∀ τ, va_D A (zm_P o a dA τ)) (p1 p2 p3 : Int) (σ : ZS) (r : Int) (σ' : ZS) (hf : zm_lay p1 p2 p3 σ = some (r, σ')) : zk_MW l yX1_lay (ws_ yX1_lay cX1_lay 6 (Option.some Jvm.ClassFile.FieldType.int)) zw_X1_lay_rm D zk_cl (zk_ty dA) A (zw_X1_lay_vs o p1 p2 p3) (zm_P o a dA σ) (zm_P o a dA σ') (some (zk_I r)) := by
  refine zk_startW (by decide +kernel) (Nat.le_of_ble_eq_true rfl) (fun p e s m below meth c H locs ls hx hb hr hlk hml hown hts hKX hP hS hl => ?_)
  have hl : lv_has ls 6 [(0, .ref o), (1, zk_I p1), (2, zk_I p2), (3, zk_I p3)] := hl
  have hK := hKX.1
  have hown : s.vm.findClass RX1 = some m.cls := hown
  have hf : zm_lay p1 p2 p3 σ = some (r, σ') := hf
  refine lv_aload_n hx hb dX1_lay_0 rfl (lv_at hl 0 rfl) ?_
  refine zk_iloadn hx hb dX1_lay_1 rfl (lv_at hl 1 rfl) ?_
  refine zk_iloadn hx hb dX1_lay_2 rfl (lv_at hl 2 rfl) ?_
  obtain ⟨v1, s2, hq, hf⟩ := zk_b2s hf
  refine zk_callVW (As := [zk_I p1, zk_I p2]) (rest := []) ⟨hx, hb, hml, hown, hts⟩ (zw_X1_refused l hD p1 p2 σ _ _ hq) (cwV 2 hts (lw_V q1042 q1044 qs42 q88 q1045) rfl rfl rfl (by decide +kernel) ⟨Nat.le_of_ble_eq_true rfl, Nat.le_of_ble_eq_true rfl⟩) hKX hP hS (va_recv hK hP (ci := 1) (q0 := 0) rfl rfl) rfl hl.1 rfl (Nat.le_of_ble_eq_true rfl) dX1_lay_3 ⟨Nat.le_of_ble_eq_true rfl, Nat.le_of_ble_eq_true rfl⟩ (fun H locs hP hS => ?_)
  refine lv_istore (lv' := [(4, zk_I v1), (0, .ref o), (1, zk_I p1), (2, zk_I p2), (3, zk_I p3)]) hx hb dX1_lay_6 hl (by decide) rfl (fun ls hl => ?_)
  refine zk_iload hx hb dX1_lay_8 (lv_at hl 0 rfl) ?_
  refine zk_if_eq (tgt := 16) hx hb dX1_lay_10 (by decide) hf (fun h => h) (fun hf => ?_) (fun hf => ?_)
  · refine lv_aload_n hx hb dX1_lay_16 rfl (lv_at hl 1 rfl) ?_
    refine zm_rget hx hb hts hown hK hP 4 (by decide) q953 rfl dX1_lay_17 ?_
    refine zk_bipush hx hb dX1_lay_20 (by decide) ?_
    refine zk_iloadn hx hb dX1_lay_22 rfl (lv_at hl 2 rfl) ?_
    refine zk_imul hx hb dX1_lay_23 ?_
    refine zk_iloadn hx hb dX1_lay_24 rfl (lv_at hl 3 rfl) ?_
    refine zk_iadd hx hb dX1_lay_25 ?_
    refine zk_iald hx hb hK hP 4 0 rfl rfl (N := 240) ⟨by decide, by decide⟩ hf dX1_lay_26 (fun hf => ?_)
    refine zk_istoreN (lv' := fun x5_3 => [(5, zk_I x5_3), (4, zk_I v1), (0, .ref o), (1, zk_I p1), (2, zk_I p2), (3, zk_I p3)]) hx hb dX1_lay_27 hl (by decide) (fun _ => rfl) hf (fun x5_3 hf ls hl => ?_)
    refine lv_aload_n hx hb dX1_lay_29 rfl (lv_at hl 2 rfl) ?_
    refine zm_rget hx hb hts hown hK hP 4 (by decide) q953 rfl dX1_lay_30 ?_
    refine zk_bipush hx hb dX1_lay_33 (by decide) ?_
    refine zk_iloadn hx hb dX1_lay_35 rfl (lv_at hl 3 rfl) ?_
    refine zk_imul hx hb dX1_lay_36 ?_
    refine zk_iloadn hx hb dX1_lay_37 rfl (lv_at hl 4 rfl) ?_
    refine zk_iadd hx hb dX1_lay_38 ?_
    refine zk_iloadn hx hb dX1_lay_39 rfl (lv_at hl 5 rfl) ?_
    refine zk_iastN hx hb hK hP hD hS 4 0 4 rfl rfl (N := 240) ⟨by decide, by decide⟩ (zm_t4 _ _ _) hf dX1_lay_40 (fun s4 H locs hf hP hS => ?_)
    refine lv_aload_n hx hb dX1_lay_41 rfl (lv_at hl 2 rfl) ?_
    refine zk_iload hx hb dX1_lay_42 (lv_at hl 0 rfl) ?_
    obtain ⟨v5, s6, hq, hf⟩ := zk_b2s hf
    refine zk_callVW (As := [zk_I x5_3]) (rest := []) ⟨hx, hb, hml, hown, hts⟩ (zw_X1_tell l hD x5_3 s4 _ _ hq) (cwV 1 hts (lw_V q1046 q1048 qs43 q88 q1049) rfl rfl rfl (by decide +kernel) ⟨Nat.le_of_ble_eq_true rfl, Nat.le_of_ble_eq_true rfl⟩) hKX hP hS (va_recv hK hP (ci := 1) (q0 := 0) rfl rfl) rfl hl.1 rfl (Nat.le_of_ble_eq_true rfl) dX1_lay_44 ⟨Nat.le_of_ble_eq_true rfl, Nat.le_of_ble_eq_true rfl⟩ (fun H locs hP hS => ?_)
    exact zk_iret hx hb hr hlk (zk_p1 hf) (zk_pB hf hP) hS dX1_lay_47
  · refine zk_iload hx hb dX1_lay_13 (lv_at hl 0 rfl) ?_
    exact zk_iret hx hb hr hlk (zk_p1 hf) (zk_pB hf hP) hS dX1_lay_15
abbrev zw_X1_at_rm : Room := { frames := 4, cells := 0, slots := 0, locals := 99 }
abbrev zw_X1_at_vs (o : Nat) (p1 p2 : Int) : List Value := [.ref o, zk_I p1, zk_I p2]
set_option maxHeartbeats 4000000 in
set_option maxRecDepth 100000 in
theorem zw_X1_at (l : Launch) {D : va_G} {o : Nat} {a : Nat → Nat} {dA : Nat → ClassId} {A : Nat → Prop} (hD : ∀ τ, va_D A (zm_P o a dA τ)) (p1 p2 : Int) (σ : ZS) (r : Int) (σ' : ZS) (hf : zm_at p1 p2 σ = some (r, σ')) : zk_MW l yX1_at (ws_ yX1_at cX1_at 4 (Option.some Jvm.ClassFile.FieldType.int)) zw_X1_at_rm D zk_cl (zk_ty dA) A (zw_X1_at_vs o p1 p2) (zm_P o a dA σ) (zm_P o a dA σ') (some (zk_I r)) := by
  refine zk_startW (by decide +kernel) (Nat.le_of_ble_eq_true rfl) (fun p e s m below meth c H locs ls hx hb hr hlk hml hown hts hKX hP hS hl => ?_)
  have hl : lv_has ls 4 [(0, .ref o), (1, zk_I p1), (2, zk_I p2)] := hl
  have hK := hKX.1
  have hown : s.vm.findClass RX1 = some m.cls := hown
  have hf : zm_at p1 p2 σ = some (r, σ') := hf
  refine lv_aload_n hx hb dX1_at_0 rfl (lv_at hl 0 rfl) ?_
  refine zk_iloadn hx hb dX1_at_1 rfl (lv_at hl 1 rfl) ?_
  refine zk_iloadn hx hb dX1_at_2 rfl (lv_at hl 2 rfl) ?_
  obtain ⟨v1, s2, hq, hf⟩ := zk_b2s hf
  refine zk_callVW (As := [zk_I p1, zk_I p2]) (rest := []) ⟨hx, hb, hml, hown, hts⟩ (zw_X1_refused l hD p1 p2 σ _ _ hq) (cwV 2 hts (lw_V q1042 q1044 qs42 q88 q1045) rfl rfl rfl (by decide +kernel) ⟨Nat.le_of_ble_eq_true rfl, Nat.le_of_ble_eq_true rfl⟩) hKX hP hS (va_recv hK hP (ci := 1) (q0 := 0) rfl rfl) rfl hl.1 rfl (Nat.le_of_ble_eq_true rfl) dX1_at_3 ⟨Nat.le_of_ble_eq_true rfl, Nat.le_of_ble_eq_true rfl⟩ (fun H locs hP hS => ?_)
  refine lv_istore_n (lv' := [(3, zk_I v1), (0, .ref o), (1, zk_I p1), (2, zk_I p2)]) hx hb dX1_at_6 rfl hl (by decide) rfl (fun ls hl => ?_)
  refine zk_iloadn hx hb dX1_at_7 rfl (lv_at hl 0 rfl) ?_
  refine zk_if_eq (tgt := 15) hx hb dX1_at_8 (by decide) hf (fun h => h) (fun hf => ?_) (fun hf => ?_)
  · refine lv_aload_n hx hb dX1_at_15 rfl (lv_at hl 1 rfl) ?_
    refine lv_aload_n hx hb dX1_at_16 rfl (lv_at hl 1 rfl) ?_
    refine zm_rget hx hb hts hown hK hP 4 (by decide) q953 rfl dX1_at_17 ?_
    refine zk_bipush hx hb dX1_at_20 (by decide) ?_
    refine zk_iloadn hx hb dX1_at_22 rfl (lv_at hl 2 rfl) ?_
    refine zk_imul hx hb dX1_at_23 ?_
    refine zk_iloadn hx hb dX1_at_24 rfl (lv_at hl 3 rfl) ?_
    refine zk_iadd hx hb dX1_at_25 ?_
    refine zk_iald hx hb hK hP 4 0 rfl rfl (N := 240) ⟨by decide, by decide⟩ hf dX1_at_26 (fun hf => ?_)
    obtain ⟨v3, s4, hq, hf⟩ := zk_b2s hf
    refine zk_callVW (As := [zk_I (s2 4 (40 * p1 + p2))]) (rest := []) ⟨hx, hb, hml, hown, hts⟩ (zw_X1_tell l hD (s2 4 (40 * p1 + p2)) s2 _ _ hq) (cwV 1 hts (lw_V q1046 q1048 qs43 q88 q1049) rfl rfl rfl (by decide +kernel) ⟨Nat.le_of_ble_eq_true rfl, Nat.le_of_ble_eq_true rfl⟩) hKX hP hS (va_recv hK hP (ci := 1) (q0 := 0) rfl rfl) rfl hl.1 rfl (Nat.le_of_ble_eq_true rfl) dX1_at_27 ⟨Nat.le_of_ble_eq_true rfl, Nat.le_of_ble_eq_true rfl⟩ (fun H locs hP hS => ?_)
    exact zk_iret hx hb hr hlk (zk_p1 hf) (zk_pB hf hP) hS dX1_at_30
  · refine zk_iloadn hx hb dX1_at_11 rfl (lv_at hl 0 rfl) ?_
    refine lv_goto (tgt := 30) hx hb dX1_at_12 (by decide) ?_
    exact zk_iret hx hb hr hlk (zk_p1 hf) (zk_pB hf hP) hS dX1_at_30
abbrev zw_X1_tear_rm : Room := { frames := 3, cells := 0, slots := 0, locals := 77 }
abbrev zw_X1_tear_vs (o : Nat) (p1 : Int) : List Value := [.ref o, zk_I p1]
set_option maxHeartbeats 4000000 in
set_option maxRecDepth 100000 in
theorem zw_X1_tear (l : Launch) {D : va_G} {o : Nat} {a : Nat → Nat} {dA : Nat → ClassId} {A : Nat → Prop} (hD : ∀ τ, va_D A (zm_P o a dA τ)) (p1 : Int) (σ : ZS) (r : Int) (σ' : ZS) (hf : zm_tear p1 σ = some (r, σ')) : zk_MW l yX1_tear (ws_ yX1_tear cX1_tear 2 (Option.some Jvm.ClassFile.FieldType.int)) zw_X1_tear_rm D zk_cl (zk_ty dA) A (zw_X1_tear_vs o p1) (zm_P o a dA σ) (zm_P o a dA σ') (some (zk_I r)) := by
  refine zk_startW (by decide +kernel) (Nat.le_of_ble_eq_true rfl) (fun p e s m below meth c H locs ls hx hb hr hlk hml hown hts hKX hP hS hl => ?_)
  have hl : lv_has ls 2 [(0, .ref o), (1, zk_I p1)] := hl
  have hK := hKX.1
  have hown : s.vm.findClass RX1 = some m.cls := hown
  have hf : zm_tear p1 σ = some (r, σ') := hf
  refine zk_iloadn hx hb dX1_tear_0 rfl (lv_at hl 1 rfl) ?_
  obtain ⟨v1, hq, hf⟩ := zk_bs hf
  refine zk_callSS (As := [zk_I p1]) (rest := []) ⟨hx, hb, hml, hown, hts⟩ (zw_X1_isRow l p1 _ hq) (va_cwS 1 hts (lw_S q1023 q1024 q88 q1025) rfl rfl rfl (by decide +kernel) ⟨Nat.le_of_ble_eq_true rfl, Nat.le_of_ble_eq_true rfl⟩) hP hS rfl hl.1 rfl (Nat.le_of_ble_eq_true rfl) dX1_tear_1 ⟨Nat.le_of_ble_eq_true rfl, Nat.le_of_ble_eq_true rfl⟩ (fun H locs hP hS => ?_)
  refine zk_if_ne (tgt := 9) hx hb dX1_tear_4 (by decide) hf (fun h => h) (fun hf => ?_) (fun hf => ?_)
  · refine lv_aload_n hx hb dX1_tear_9 rfl (lv_at hl 0 rfl) ?_
    refine zm_rget hx hb hts hown hK hP 3 (by decide) q952 rfl dX1_tear_10 ?_
    refine zk_iloadn hx hb dX1_tear_13 rfl (lv_at hl 1 rfl) ?_
    refine zk_iald hx hb hK hP 3 0 rfl rfl (N := 6) ⟨by decide, by decide⟩ hf dX1_tear_14 (fun hf => ?_)
    refine zk_if_ge (tgt := 24) hx hb dX1_tear_15 (by decide) hf (fun h => h) (fun hf => ?_) (fun hf => ?_)
    · refine lv_aload_n hx hb dX1_tear_24 rfl (lv_at hl 0 rfl) ?_
      refine zm_rget hx hb hts hown hK hP 3 (by decide) q952 rfl dX1_tear_25 ?_
      refine zk_iloadn hx hb dX1_tear_28 rfl (lv_at hl 1 rfl) ?_
      refine zk_iconst hx hb dX1_tear_29 ?_
      refine zk_iastN hx hb hK hP hD hS 3 0 3 rfl rfl (N := 6) ⟨by decide, by decide⟩ (zm_t3 _ _ _) hf dX1_tear_30 (fun s2 H locs hf hP hS => ?_)
      refine zk_iconst hx hb dX1_tear_31 ?_
      exact zk_iret hx hb hr hlk (zk_p1 hf) (zk_pB hf hP) hS dX1_tear_32
    · refine lv_aload_n hx hb dX1_tear_18 rfl (lv_at hl 0 rfl) ?_
      refine zk_iconst hx hb dX1_tear_19 ?_
      obtain ⟨v3, s4, hq, hf⟩ := zk_b2s hf
      refine zk_callVW (As := [zk_I 1]) (rest := []) ⟨hx, hb, hml, hown, hts⟩ (zw_X1_find l hD 1 σ _ _ hq) (cwV 1 hts (lw_V q1030 q1032 qs40 q88 q1033) rfl rfl rfl (by decide +kernel) ⟨Nat.le_of_ble_eq_true rfl, Nat.le_of_ble_eq_true rfl⟩) hKX hP hS (va_recv hK hP (ci := 1) (q0 := 0) rfl rfl) rfl hl.1 rfl (Nat.le_of_ble_eq_true rfl) dX1_tear_20 ⟨Nat.le_of_ble_eq_true rfl, Nat.le_of_ble_eq_true rfl⟩ (fun H locs hP hS => ?_)
      exact zk_iret hx hb hr hlk (zk_p1 hf) (zk_pB hf hP) hS dX1_tear_23
  · refine zk_iconst hx hb dX1_tear_7 ?_
    exact zk_iret hx hb hr hlk (zk_p1 hf) (zk_pB hf hP) hS dX1_tear_8
abbrev zw_X1_isSpan_rm : Room := { frames := 1, cells := 0, slots := 0, locals := 32 }
abbrev zw_X1_isSpan_vs (o : Nat) (p1 p2 p3 : Int) : List Value := [.ref o, zk_I p1, zk_I p2, zk_I p3]
set_option maxHeartbeats 4000000 in
set_option maxRecDepth 100000 in
theorem zw_X1_isSpan (l : Launch) {D : va_G} {o : Nat} {a : Nat → Nat} {dA : Nat → ClassId} (p1 p2 p3 : Int) (σ : ZS) (r : Int) (hf : zm_isSpan p1 p2 p3 σ = some r) : zk_MR l yX1_isSpan (ws_ yX1_isSpan cX1_isSpan 4 (Option.some Jvm.ClassFile.FieldType.boolean)) zw_X1_isSpan_rm D zk_cl (zk_ty dA) (zw_X1_isSpan_vs o p1 p2 p3) (zm_P o a dA σ) (some (zk_I r)) := by
  refine zk_startW (by decide +kernel) (Nat.le_of_ble_eq_true rfl) (fun p e s m below meth c H locs ls hx hb hr hlk hml hown hts hKX hP hS hl => ?_)
  have hl : lv_has ls 4 [(0, .ref o), (1, zk_I p1), (2, zk_I p2), (3, zk_I p3)] := hl
  have hK := hKX.1
  have hown : s.vm.findClass RX1 = some m.cls := hown
  have hf : zm_isSpan p1 p2 p3 σ = some r := hf
  refine zk_iloadn hx hb dX1_isSpan_0 rfl (lv_at hl 2 rfl) ?_
  refine zk_if_lt (tgt := 24) hx hb dX1_isSpan_1 (by decide) hf (fun h => h) (fun hf => ?_) (fun hf => ?_)
  · refine zk_iconst hx hb dX1_isSpan_24 ?_
    exact zk_zret hx hb hr hlk (Or.inl rfl) (Option.some.inj hf) (fun _ _ => trivial) hS dX1_isSpan_25
  · refine zk_iloadn hx hb dX1_isSpan_4 rfl (lv_at hl 2 rfl) ?_
    refine zk_ri2l hx hb dX1_isSpan_5 hf (fun hf => ?_)
    refine zk_iloadn hx hb dX1_isSpan_6 rfl (lv_at hl 3 rfl) ?_
    refine zk_ri2l hx hb dX1_isSpan_7 hf (fun hf => ?_)
    refine zk_ladd hx hb dX1_isSpan_8 ?_
    refine lv_aload_n hx hb dX1_isSpan_9 rfl (lv_at hl 0 rfl) ?_
    refine zm_rget hx hb hts hown hK hP 3 (by decide) q952 rfl dX1_isSpan_10 ?_
    refine zk_iloadn hx hb dX1_isSpan_13 rfl (lv_at hl 1 rfl) ?_
    refine zk_iald hx hb hK hP 3 0 rfl rfl (N := 6) ⟨by decide, by decide⟩ hf dX1_isSpan_14 (fun hf => ?_)
    refine zk_ri2l hx hb dX1_isSpan_15 hf (fun hf => ?_)
    refine zk_lcmp_gt (tgt := 24) hx hb dX1_isSpan_16 dX1_isSpan_17 (by decide) hf (fun h => h) (fun hf => ?_) (fun hf => ?_)
    · refine zk_iconst hx hb dX1_isSpan_24 ?_
      exact zk_zret hx hb hr hlk (Or.inl rfl) (Option.some.inj hf) (fun _ _ => trivial) hS dX1_isSpan_25
    · refine zk_iconst hx hb dX1_isSpan_20 ?_
      refine lv_goto (tgt := 25) hx hb dX1_isSpan_21 (by decide) ?_
      exact zk_zret hx hb hr hlk (Or.inr rfl) (Option.some.inj hf) (fun _ _ => trivial) hS dX1_isSpan_25
abbrev zw_X1_copy_rm : Room := { frames := 3, cells := 0, slots := 0, locals := 77 }
abbrev zw_X1_copy_vs (o : Nat) (p1 p2 p3 p4 p5 : Int) : List Value := [.ref o, zk_I p1, zk_I p2, zk_I p3, zk_I p4, zk_I p5]
set_option maxHeartbeats 4000000 in
set_option maxRecDepth 100000 in
theorem zw_X1_copy (l : Launch) {D : va_G} {o : Nat} {a : Nat → Nat} {dA : Nat → ClassId} {A : Nat → Prop} (hD : ∀ τ, va_D A (zm_P o a dA τ)) (N : Nat) (p1 p2 p3 p4 p5 : Int) (σ : ZS) (r : Int) (σ' : ZS) (hf : zm_copy N p1 p2 p3 p4 p5 σ = some (r, σ')) : zk_MW l yX1_copy (ws_ yX1_copy cX1_copy 9 (Option.some Jvm.ClassFile.FieldType.int)) zw_X1_copy_rm D zk_cl (zk_ty dA) A (zw_X1_copy_vs o p1 p2 p3 p4 p5) (zm_P o a dA σ) (zm_P o a dA σ') (some (zk_I r)) := by
  refine zk_startW (by decide +kernel) (Nat.le_of_ble_eq_true rfl) (fun p e s m below meth c H locs ls hx hb hr hlk hml hown hts hKX hP hS hl => ?_)
  have hl : lv_has ls 9 [(0, .ref o), (1, zk_I p1), (2, zk_I p2), (3, zk_I p3), (4, zk_I p4), (5, zk_I p5)] := hl
  have hK := hKX.1
  have hown : s.vm.findClass RX1 = some m.cls := hown
  have hf : zm_copy N p1 p2 p3 p4 p5 σ = some (r, σ') := hf
  have hJ157 : ∀ (s0 : ZS) (H : Heap) (locs : List Loc) (ls : Array Slot), zm_copy_j157 N  s0 = some (r, σ') → lv_has ls 9 [] → va_P D zk_cl (zm_P o a dA s0) H → va_S A s.heap H locs → W p l e zw_X1_copy_rm s m (zw_X1_copy_vs o p1 p2 p3 p4 p5).toArray below meth c H locs 0 0 (MQ below (zk_Q (some (zk_I r)) (fun t => va_P D zk_cl (zm_P o a dA σ') t.heap) A) (zw_X1_copy_vs o p1 p2 p3 p4 p5).toArray s 0 0 A) (F0 m 157 ls []) := by
    intro s0 H locs ls hf hl hP hS
    refine zk_iconst hx hb dX1_copy_157 ?_
    exact zk_iret hx hb hr hlk (zk_p1 hf) (zk_pB hf hP) hS dX1_copy_158
  have hL96 : ∀ (n : Nat) (x1 x2 x3 x4 x5 x6 x7 : Int) (s0 : ZS) (H : Heap) (locs : List Loc) (ls : Array Slot), zk_b (zk_loop (α := Int × ZS) (β := ZS) n (fun a => zm_copy_b96 N x1 x2 x3 x4 x5 x6 a.1 a.2) (x7, s0)) (fun e => zm_copy_j157 N e) = some (r, σ') → lv_has ls 9 [(0, .ref o), (1, zk_I x1), (2, zk_I x2), (3, zk_I x3), (4, zk_I x4), (5, zk_I x5), (6, zk_I x6), (7, zk_I x7)] → va_P D zk_cl (zm_P o a dA s0) H → va_S A s.heap H locs → W p l e zw_X1_copy_rm s m (zw_X1_copy_vs o p1 p2 p3 p4 p5).toArray below meth c H locs 0 0 (MQ below (zk_Q (some (zk_I r)) (fun t => va_P D zk_cl (zm_P o a dA σ') t.heap) A) (zw_X1_copy_vs o p1 p2 p3 p4 p5).toArray s 0 0 A) (F0 m 96 ls []) := by
    intro n
    induction n with
    | zero => intro x1 x2 x3 x4 x5 x6 x7 s0 H locs ls hf; exact (zk_l0 hf).elim
    | succ n ih96 =>
      intro x1 x2 x3 x4 x5 x6 x7 s0 H locs ls hf hl hP hS
      obtain ⟨c96, hf, hc96⟩ := zk_ls hf
      refine zk_iload hx hb dX1_copy_96 (lv_at hl 7 rfl) ?_
      refine zk_iload hx hb dX1_copy_98 (lv_at hl 5 rfl) ?_
      refine zk_icmp_ge (tgt := 157) hx hb dX1_copy_100 (by decide) hf (fun h => h) (fun hf => ?_) (fun hf => ?_)
      · obtain rfl := zk_so hf
        exact hJ157 _ H locs ls hc96 (lv_sub hl [] rfl) hP hS
      · refine zk_iload hx hb dX1_copy_103 (lv_at hl 6 rfl) ?_
        obtain ⟨hg, hf⟩ := zk_gs hf
        have hV : W p l e zw_X1_copy_rm s m (zw_X1_copy_vs o p1 p2 p3 p4 p5).toArray below meth c H locs 0 0 (MQ below (zk_Q (some (zk_I r)) (fun t => va_P D zk_cl (zm_P o a dA σ') t.heap) A) (zw_X1_copy_vs o p1 p2 p3 p4 p5).toArray s 0 0 A) (F0 m 120 ls [zk_I (if x6 = 0 then x7 else x5 - 1 - x7)]) := by
          refine zk_istoreN (lv' := fun x8_12 => [(8, zk_I x8_12), (0, .ref o), (1, zk_I x1), (2, zk_I x2), (3, zk_I x3), (4, zk_I x4), (5, zk_I x5), (6, zk_I x6), (7, zk_I x7)]) hx hb dX1_copy_120 hl (by decide) (fun _ => rfl) hf (fun x8_12 hf ls hl => ?_)
          refine lv_aload_n hx hb dX1_copy_122 rfl (lv_at hl 1 rfl) ?_
          refine zm_rget hx hb hts hown hK hP 4 (by decide) q953 rfl dX1_copy_123 ?_
          refine zk_bipush hx hb dX1_copy_126 (by decide) ?_
          refine zk_iloadn hx hb dX1_copy_128 rfl (lv_at hl 4 rfl) ?_
          refine zk_imul hx hb dX1_copy_129 ?_
          refine zk_iload hx hb dX1_copy_130 (lv_at hl 5 rfl) ?_
          refine zk_iadd hx hb dX1_copy_132 ?_
          refine zk_iload hx hb dX1_copy_133 (lv_at hl 0 rfl) ?_
          refine zk_iadd hx hb dX1_copy_135 ?_
          refine lv_aload_n hx hb dX1_copy_136 rfl (lv_at hl 1 rfl) ?_
          refine zm_rget hx hb hts hown hK hP 4 (by decide) q953 rfl dX1_copy_137 ?_
          refine zk_bipush hx hb dX1_copy_140 (by decide) ?_
          refine zk_iloadn hx hb dX1_copy_142 rfl (lv_at hl 2 rfl) ?_
          refine zk_imul hx hb dX1_copy_143 ?_
          refine zk_iloadn hx hb dX1_copy_144 rfl (lv_at hl 3 rfl) ?_
          refine zk_iadd hx hb dX1_copy_145 ?_
          refine zk_iload hx hb dX1_copy_146 (lv_at hl 0 rfl) ?_
          refine zk_iadd hx hb dX1_copy_148 ?_
          refine zk_iald hx hb hK hP 4 0 rfl rfl (N := 240) ⟨by decide, by decide⟩ hf dX1_copy_149 (fun hf => ?_)
          refine zk_iastN hx hb hK hP hD hS 4 0 4 rfl rfl (N := 240) ⟨by decide, by decide⟩ (zm_t4 _ _ _) hf dX1_copy_150 (fun s13 H locs hf hP hS => ?_)
          refine zk_iincN (lv' := fun x7_14 => [(7, zk_I x7_14), (8, zk_I x8_12), (0, .ref o), (1, zk_I x1), (2, zk_I x2), (3, zk_I x3), (4, zk_I x4), (5, zk_I x5), (6, zk_I x6)]) hx hb dX1_copy_151 hl (k := 8) rfl (by decide) (fun _ => rfl) hf (fun x7_14 hf ls hl => ?_)
          refine lv_goto (tgt := 96) hx hb dX1_copy_154 (by decide) ?_
          obtain rfl := zk_so hf
          exact ih96 _ _ _ _ _ _ _ _ H locs ls hc96 (lv_sub hl [2, 3, 4, 5, 6, 7, 8, 0] rfl) hP hS
        refine zk_if_eqV (tgt := 118) hx hb dX1_copy_105 (by decide) ((fun h => h) hg) (fun hc => ?_) (fun hc => ?_)
        · rw [if_pos hc] at hV
          refine zk_iload hx hb dX1_copy_118 (lv_at hl 7 rfl) ?_
          exact hV
        · rw [if_neg hc] at hV
          refine zk_iload hx hb dX1_copy_108 (lv_at hl 5 rfl) ?_
          refine zk_iconst hx hb dX1_copy_110 ?_
          refine zk_isub hx hb dX1_copy_111 ?_
          refine zk_iload hx hb dX1_copy_112 (lv_at hl 7 rfl) ?_
          refine zk_isub hx hb dX1_copy_114 ?_
          refine lv_goto (tgt := 120) hx hb dX1_copy_115 (by decide) ?_
          exact hV
  have hJ74 : ∀ (s0 : ZS) (H : Heap) (locs : List Loc) (ls : Array Slot), zm_copy_j74 N  s0 = some (r, σ') → lv_has ls 9 [(0, .ref o)] → va_P D zk_cl (zm_P o a dA s0) H → va_S A s.heap H locs → W p l e zw_X1_copy_rm s m (zw_X1_copy_vs o p1 p2 p3 p4 p5).toArray below meth c H locs 0 0 (MQ below (zk_Q (some (zk_I r)) (fun t => va_P D zk_cl (zm_P o a dA σ') t.heap) A) (zw_X1_copy_vs o p1 p2 p3 p4 p5).toArray s 0 0 A) (F0 m 74 ls []) := by
    intro s0 H locs ls hf hl hP hS
    refine lv_aload_n hx hb dX1_copy_74 rfl (lv_at hl 0 rfl) ?_
    refine zk_iconst hx hb dX1_copy_75 ?_
    obtain ⟨v10, s11, hq, hf⟩ := zk_b2s hf
    refine zk_callVW (As := [zk_I 2]) (rest := []) ⟨hx, hb, hml, hown, hts⟩ (zw_X1_find l hD 2 s0 _ _ hq) (cwV 1 hts (lw_V q1030 q1032 qs40 q88 q1033) rfl rfl rfl (by decide +kernel) ⟨Nat.le_of_ble_eq_true rfl, Nat.le_of_ble_eq_true rfl⟩) hKX hP hS (va_recv hK hP (ci := 1) (q0 := 0) rfl rfl) rfl hl.1 rfl (Nat.le_of_ble_eq_true rfl) dX1_copy_76 ⟨Nat.le_of_ble_eq_true rfl, Nat.le_of_ble_eq_true rfl⟩ (fun H locs hP hS => ?_)
    exact zk_iret hx hb hr hlk (zk_p1 hf) (zk_pB hf hP) hS dX1_copy_79
  have hJ45 : ∀ (s0 : ZS) (H : Heap) (locs : List Loc) (ls : Array Slot), zm_copy_j45 N  s0 = some (r, σ') → lv_has ls 9 [(0, .ref o)] → va_P D zk_cl (zm_P o a dA s0) H → va_S A s.heap H locs → W p l e zw_X1_copy_rm s m (zw_X1_copy_vs o p1 p2 p3 p4 p5).toArray below meth c H locs 0 0 (MQ below (zk_Q (some (zk_I r)) (fun t => va_P D zk_cl (zm_P o a dA σ') t.heap) A) (zw_X1_copy_vs o p1 p2 p3 p4 p5).toArray s 0 0 A) (F0 m 45 ls []) := by
    intro s0 H locs ls hf hl hP hS
    refine lv_aload_n hx hb dX1_copy_45 rfl (lv_at hl 0 rfl) ?_
    refine zk_iconst hx hb dX1_copy_46 ?_
    obtain ⟨v8, s9, hq, hf⟩ := zk_b2s hf
    refine zk_callVW (As := [zk_I 1]) (rest := []) ⟨hx, hb, hml, hown, hts⟩ (zw_X1_find l hD 1 s0 _ _ hq) (cwV 1 hts (lw_V q1030 q1032 qs40 q88 q1033) rfl rfl rfl (by decide +kernel) ⟨Nat.le_of_ble_eq_true rfl, Nat.le_of_ble_eq_true rfl⟩) hKX hP hS (va_recv hK hP (ci := 1) (q0 := 0) rfl rfl) rfl hl.1 rfl (Nat.le_of_ble_eq_true rfl) dX1_copy_47 ⟨Nat.le_of_ble_eq_true rfl, Nat.le_of_ble_eq_true rfl⟩ (fun H locs hP hS => ?_)
    exact zk_iret hx hb hr hlk (zk_p1 hf) (zk_pB hf hP) hS dX1_copy_50
  refine zk_iloadn hx hb dX1_copy_0 rfl (lv_at hl 1 rfl) ?_
  obtain ⟨v1, hq, hf⟩ := zk_bs hf
  refine zk_callSS (As := [zk_I p1]) (rest := []) ⟨hx, hb, hml, hown, hts⟩ (zw_X1_isRow l p1 _ hq) (va_cwS 1 hts (lw_S q1023 q1024 q88 q1025) rfl rfl rfl (by decide +kernel) ⟨Nat.le_of_ble_eq_true rfl, Nat.le_of_ble_eq_true rfl⟩) hP hS rfl hl.1 rfl (Nat.le_of_ble_eq_true rfl) dX1_copy_1 ⟨Nat.le_of_ble_eq_true rfl, Nat.le_of_ble_eq_true rfl⟩ (fun H locs hP hS => ?_)
  refine zk_if_eq (tgt := 14) hx hb dX1_copy_4 (by decide) hf (fun h => h) (fun hf => ?_) (fun hf => ?_)
  · refine zk_iconst hx hb dX1_copy_14 ?_
    exact zk_iret hx hb hr hlk (zk_p1 hf) (zk_pB hf hP) hS dX1_copy_15
  · refine zk_iloadn hx hb dX1_copy_7 rfl (lv_at hl 3 rfl) ?_
    obtain ⟨v2, hq, hf⟩ := zk_bs hf
    refine zk_callSS (As := [zk_I p3]) (rest := []) ⟨hx, hb, hml, hown, hts⟩ (zw_X1_isRow l p3 _ hq) (va_cwS 1 hts (lw_S q1023 q1024 q88 q1025) rfl rfl rfl (by decide +kernel) ⟨Nat.le_of_ble_eq_true rfl, Nat.le_of_ble_eq_true rfl⟩) hP hS rfl hl.1 rfl (Nat.le_of_ble_eq_true rfl) dX1_copy_8 ⟨Nat.le_of_ble_eq_true rfl, Nat.le_of_ble_eq_true rfl⟩ (fun H locs hP hS => ?_)
    refine zk_if_ne (tgt := 16) hx hb dX1_copy_11 (by decide) hf (fun h => h) (fun hf => ?_) (fun hf => ?_)
    · refine zk_iload hx hb dX1_copy_16 (lv_at hl 5 rfl) ?_
      refine zk_if_ge (tgt := 27) hx hb dX1_copy_18 (by decide) hf (fun h => h) (fun hf => ?_) (fun hf => ?_)
      · refine lv_aload_n hx hb dX1_copy_27 rfl (lv_at hl 0 rfl) ?_
        refine zm_rget hx hb hts hown hK hP 3 (by decide) q952 rfl dX1_copy_28 ?_
        refine zk_iloadn hx hb dX1_copy_31 rfl (lv_at hl 1 rfl) ?_
        refine zk_iald hx hb hK hP 3 0 rfl rfl (N := 6) ⟨by decide, by decide⟩ hf dX1_copy_32 (fun hf => ?_)
        refine zk_if_lt (tgt := 45) hx hb dX1_copy_33 (by decide) hf (fun h => h) (fun hf => ?_) (fun hf => ?_)
        · exact hJ45 _ H locs ls hf (lv_sub hl [0] rfl) hP hS
        · refine lv_aload_n hx hb dX1_copy_36 rfl (lv_at hl 0 rfl) ?_
          refine zm_rget hx hb hts hown hK hP 3 (by decide) q952 rfl dX1_copy_37 ?_
          refine zk_iloadn hx hb dX1_copy_40 rfl (lv_at hl 3 rfl) ?_
          refine zk_iald hx hb hK hP 3 0 rfl rfl (N := 6) ⟨by decide, by decide⟩ hf dX1_copy_41 (fun hf => ?_)
          refine zk_if_ge (tgt := 51) hx hb dX1_copy_42 (by decide) hf (fun h => h) (fun hf => ?_) (fun hf => ?_)
          · refine lv_aload_n hx hb dX1_copy_51 rfl (lv_at hl 0 rfl) ?_
            refine zk_iloadn hx hb dX1_copy_52 rfl (lv_at hl 1 rfl) ?_
            refine zk_iloadn hx hb dX1_copy_53 rfl (lv_at hl 2 rfl) ?_
            refine zk_iload hx hb dX1_copy_54 (lv_at hl 5 rfl) ?_
            obtain ⟨v3, hq, hf⟩ := zk_bs hf
            refine zk_callVR (As := [zk_I p1, zk_I p2, zk_I p5]) (rest := []) ⟨hx, hb, hml, hown, hts⟩ (zw_X1_isSpan l p1 p2 p5 σ _ hq) (cwV 3 hts (lw_V q1062 q1064 qs44 q88 q1065) rfl rfl rfl (by decide +kernel) ⟨Nat.le_of_ble_eq_true rfl, Nat.le_of_ble_eq_true rfl⟩) hKX hP hS (va_recv hK hP (ci := 1) (q0 := 0) rfl rfl) rfl hl.1 rfl (Nat.le_of_ble_eq_true rfl) dX1_copy_56 ⟨Nat.le_of_ble_eq_true rfl, Nat.le_of_ble_eq_true rfl⟩ (fun H locs hP hS => ?_)
            refine zk_if_eq (tgt := 74) hx hb dX1_copy_59 (by decide) hf (fun h => h) (fun hf => ?_) (fun hf => ?_)
            · exact hJ74 _ H locs ls hf (lv_sub hl [0] rfl) hP hS
            · refine lv_aload_n hx hb dX1_copy_62 rfl (lv_at hl 0 rfl) ?_
              refine zk_iloadn hx hb dX1_copy_63 rfl (lv_at hl 3 rfl) ?_
              refine zk_iload hx hb dX1_copy_64 (lv_at hl 4 rfl) ?_
              refine zk_iload hx hb dX1_copy_66 (lv_at hl 5 rfl) ?_
              obtain ⟨v4, hq, hf⟩ := zk_bs hf
              refine zk_callVR (As := [zk_I p3, zk_I p4, zk_I p5]) (rest := []) ⟨hx, hb, hml, hown, hts⟩ (zw_X1_isSpan l p3 p4 p5 σ _ hq) (cwV 3 hts (lw_V q1062 q1064 qs44 q88 q1065) rfl rfl rfl (by decide +kernel) ⟨Nat.le_of_ble_eq_true rfl, Nat.le_of_ble_eq_true rfl⟩) hKX hP hS (va_recv hK hP (ci := 1) (q0 := 0) rfl rfl) rfl hl.1 rfl (Nat.le_of_ble_eq_true rfl) dX1_copy_68 ⟨Nat.le_of_ble_eq_true rfl, Nat.le_of_ble_eq_true rfl⟩ (fun H locs hP hS => ?_)
              refine zk_if_ne (tgt := 80) hx hb dX1_copy_71 (by decide) hf (fun h => h) (fun hf => ?_) (fun hf => ?_)
              · refine zk_iloadn hx hb dX1_copy_80 rfl (lv_at hl 2 rfl) ?_
                refine zk_iload hx hb dX1_copy_81 (lv_at hl 4 rfl) ?_
                obtain ⟨hg, hf⟩ := zk_gs hf
                have hV : W p l e zw_X1_copy_rm s m (zw_X1_copy_vs o p1 p2 p3 p4 p5).toArray below meth c H locs 0 0 (MQ below (zk_Q (some (zk_I r)) (fun t => va_P D zk_cl (zm_P o a dA σ') t.heap) A) (zw_X1_copy_vs o p1 p2 p3 p4 p5).toArray s 0 0 A) (F0 m 91 ls [zk_I (if p4 ≤ p2 then 0 else 1)]) := by
                  refine zk_istoreN (lv' := fun x6_5 => [(6, zk_I x6_5), (0, .ref o), (1, zk_I p1), (2, zk_I p2), (3, zk_I p3), (4, zk_I p4), (5, zk_I p5)]) hx hb dX1_copy_91 hl (by decide) (fun _ => rfl) hf (fun x6_5 hf ls hl => ?_)
                  refine zk_iconst hx hb dX1_copy_93 ?_
                  refine lv_istore (lv' := [(7, zk_I 0), (6, zk_I x6_5), (0, .ref o), (1, zk_I p1), (2, zk_I p2), (3, zk_I p3), (4, zk_I p4), (5, zk_I p5)]) hx hb dX1_copy_94 hl (by decide) rfl (fun ls hl => ?_)
                  exact hL96 N _ _ _ _ _ _ _ _ H locs ls hf (lv_sub hl [2, 3, 4, 5, 6, 7, 1, 0] rfl) hP hS
                refine zk_icmp_geV (tgt := 90) hx hb dX1_copy_83 (by decide) ((fun h => h) hg) (fun hc => ?_) (fun hc => ?_)
                · rw [if_pos hc] at hV
                  refine zk_iconst hx hb dX1_copy_90 ?_
                  exact hV
                · rw [if_neg hc] at hV
                  refine zk_iconst hx hb dX1_copy_86 ?_
                  refine lv_goto (tgt := 91) hx hb dX1_copy_87 (by decide) ?_
                  exact hV
              · exact hJ74 _ H locs ls hf (lv_sub hl [0] rfl) hP hS
          · exact hJ45 _ H locs ls hf (lv_sub hl [0] rfl) hP hS
      · refine lv_aload_n hx hb dX1_copy_21 rfl (lv_at hl 0 rfl) ?_
        refine zk_iconst hx hb dX1_copy_22 ?_
        obtain ⟨v6, s7, hq, hf⟩ := zk_b2s hf
        refine zk_callVW (As := [zk_I 5]) (rest := []) ⟨hx, hb, hml, hown, hts⟩ (zw_X1_find l hD 5 σ _ _ hq) (cwV 1 hts (lw_V q1030 q1032 qs40 q88 q1033) rfl rfl rfl (by decide +kernel) ⟨Nat.le_of_ble_eq_true rfl, Nat.le_of_ble_eq_true rfl⟩) hKX hP hS (va_recv hK hP (ci := 1) (q0 := 0) rfl rfl) rfl hl.1 rfl (Nat.le_of_ble_eq_true rfl) dX1_copy_23 ⟨Nat.le_of_ble_eq_true rfl, Nat.le_of_ble_eq_true rfl⟩ (fun H locs hP hS => ?_)
        exact zk_iret hx hb hr hlk (zk_p1 hf) (zk_pB hf hP) hS dX1_copy_26
    · refine zk_iconst hx hb dX1_copy_14 ?_
      exact zk_iret hx hb hr hlk (zk_p1 hf) (zk_pB hf hP) hS dX1_copy_15
abbrev zw_X1_mean_rm : Room := { frames := 3, cells := 0, slots := 0, locals := 77 }
abbrev zw_X1_mean_vs (o : Nat) (p1 : Int) : List Value := [.ref o, zk_I p1]
set_option maxHeartbeats 4000000 in
set_option maxRecDepth 100000 in
theorem zw_X1_mean (l : Launch) {D : va_G} {o : Nat} {a : Nat → Nat} {dA : Nat → ClassId} {A : Nat → Prop} (hD : ∀ τ, va_D A (zm_P o a dA τ)) (N : Nat) (p1 : Int) (σ : ZS) (r : Int) (σ' : ZS) (hf : zm_mean N p1 σ = some (r, σ')) : zk_MW l yX1_mean (ws_ yX1_mean cX1_mean 5 (Option.some Jvm.ClassFile.FieldType.int)) zw_X1_mean_rm D zk_cl (zk_ty dA) A (zw_X1_mean_vs o p1) (zm_P o a dA σ) (zm_P o a dA σ') (some (zk_I r)) := by
  refine zk_startW (by decide +kernel) (Nat.le_of_ble_eq_true rfl) (fun p e s m below meth c H locs ls hx hb hr hlk hml hown hts hKX hP hS hl => ?_)
  have hl : lv_has ls 5 [(0, .ref o), (1, zk_I p1)] := hl
  have hK := hKX.1
  have hown : s.vm.findClass RX1 = some m.cls := hown
  have hf : zm_mean N p1 σ = some (r, σ') := hf
  have hJ77 : ∀ (x1 x2 : Int) (s0 : ZS) (H : Heap) (locs : List Loc) (ls : Array Slot), zm_mean_j77 N x1 x2 s0 = some (r, σ') → lv_has ls 5 [(0, .ref o), (1, zk_I x1), (2, zk_L x2)] → va_P D zk_cl (zm_P o a dA s0) H → va_S A s.heap H locs → W p l e zw_X1_mean_rm s m (zw_X1_mean_vs o p1).toArray below meth c H locs 0 0 (MQ below (zk_Q (some (zk_I r)) (fun t => va_P D zk_cl (zm_P o a dA σ') t.heap) A) (zw_X1_mean_vs o p1).toArray s 0 0 A) (F0 m 77 ls []) := by
    intro x1 x2 s0 H locs ls hf hl hP hS
    refine lv_aload_n hx hb dX1_mean_77 rfl (lv_at hl 0 rfl) ?_
    refine zk_lloadn hx hb dX1_mean_78 rfl (lv_at hl 2 rfl) ?_
    refine lv_aload_n hx hb dX1_mean_79 rfl (lv_at hl 0 rfl) ?_
    refine zm_rget hx hb hts hown hK hP 3 (by decide) q952 rfl dX1_mean_80 ?_
    refine zk_iloadn hx hb dX1_mean_83 rfl (lv_at hl 1 rfl) ?_
    refine zk_iald hx hb hK hP 3 0 rfl rfl (N := 6) ⟨by decide, by decide⟩ hf dX1_mean_84 (fun hf => ?_)
    refine zk_ri2l hx hb dX1_mean_85 hf (fun hf => ?_)
    refine zk_rltdiv hx hb dX1_mean_86 hf (fun hf => ?_)
    refine zk_rl2i hx hb dX1_mean_87 ?_
    obtain ⟨v8, s9, hq, hf⟩ := zk_b2s hf
    refine zk_callVW (As := [zk_I (Int.tdiv x2 (s0 3 x1))]) (rest := []) ⟨hx, hb, hml, hown, hts⟩ (zw_X1_tell l hD (Int.tdiv x2 (s0 3 x1)) s0 _ _ hq) (cwV 1 hts (lw_V q1046 q1048 qs43 q88 q1049) rfl rfl rfl (by decide +kernel) ⟨Nat.le_of_ble_eq_true rfl, Nat.le_of_ble_eq_true rfl⟩) hKX hP hS (va_recv hK hP (ci := 1) (q0 := 0) rfl rfl) rfl hl.1 rfl (Nat.le_of_ble_eq_true rfl) dX1_mean_88 ⟨Nat.le_of_ble_eq_true rfl, Nat.le_of_ble_eq_true rfl⟩ (fun H locs hP hS => ?_)
    exact zk_iret hx hb hr hlk (zk_p1 hf) (zk_pB hf hP) hS dX1_mean_91
  have hL44 : ∀ (n : Nat) (x1 x2 x4 : Int) (s0 : ZS) (H : Heap) (locs : List Loc) (ls : Array Slot), zk_b (zk_loop (α := Int × Int) (β := Int) n (fun a => zm_mean_b44 N x1 a.1 a.2 s0) (x2, x4)) (fun e => zm_mean_j77 N x1 e s0) = some (r, σ') → lv_has ls 5 [(0, .ref o), (1, zk_I x1), (2, zk_L x2), (4, zk_I x4)] → va_P D zk_cl (zm_P o a dA s0) H → va_S A s.heap H locs → W p l e zw_X1_mean_rm s m (zw_X1_mean_vs o p1).toArray below meth c H locs 0 0 (MQ below (zk_Q (some (zk_I r)) (fun t => va_P D zk_cl (zm_P o a dA σ') t.heap) A) (zw_X1_mean_vs o p1).toArray s 0 0 A) (F0 m 44 ls []) := by
    intro n
    induction n with
    | zero => intro x1 x2 x4 s0 H locs ls hf; exact (zk_l0 hf).elim
    | succ n ih44 =>
      intro x1 x2 x4 s0 H locs ls hf hl hP hS
      obtain ⟨c44, hf, hc44⟩ := zk_ls hf
      refine zk_iload hx hb dX1_mean_44 (lv_at hl 3 rfl) ?_
      refine lv_aload_n hx hb dX1_mean_46 rfl (lv_at hl 0 rfl) ?_
      refine zm_rget hx hb hts hown hK hP 3 (by decide) q952 rfl dX1_mean_47 ?_
      refine zk_iloadn hx hb dX1_mean_50 rfl (lv_at hl 1 rfl) ?_
      refine zk_iald hx hb hK hP 3 0 rfl rfl (N := 6) ⟨by decide, by decide⟩ hf dX1_mean_51 (fun hf => ?_)
      refine zk_icmp_ge (tgt := 77) hx hb dX1_mean_52 (by decide) hf (fun h => h) (fun hf => ?_) (fun hf => ?_)
      · obtain rfl := zk_so hf
        exact hJ77 _ _ _ H locs ls hc44 (lv_sub hl [0, 1, 2] rfl) hP hS
      · refine zk_lloadn hx hb dX1_mean_55 rfl (lv_at hl 2 rfl) ?_
        refine lv_aload_n hx hb dX1_mean_56 rfl (lv_at hl 0 rfl) ?_
        refine zm_rget hx hb hts hown hK hP 4 (by decide) q953 rfl dX1_mean_57 ?_
        refine zk_bipush hx hb dX1_mean_60 (by decide) ?_
        refine zk_iloadn hx hb dX1_mean_62 rfl (lv_at hl 1 rfl) ?_
        refine zk_imul hx hb dX1_mean_63 ?_
        refine zk_iload hx hb dX1_mean_64 (lv_at hl 3 rfl) ?_
        refine zk_iadd hx hb dX1_mean_66 ?_
        refine zk_iald hx hb hK hP 4 0 rfl rfl (N := 240) ⟨by decide, by decide⟩ hf dX1_mean_67 (fun hf => ?_)
        refine zk_ri2l hx hb dX1_mean_68 hf (fun hf => ?_)
        refine zk_ladd hx hb dX1_mean_69 ?_
        refine zk_lstorenN (lv' := fun x2_6 => [(2, zk_L x2_6), (0, .ref o), (1, zk_I x1), (4, zk_I x4)]) hx hb dX1_mean_70 rfl hl (by decide) (fun _ => rfl) hf (fun x2_6 hf ls hl => ?_)
        refine zk_iincN (lv' := fun x4_7 => [(4, zk_I x4_7), (2, zk_L x2_6), (0, .ref o), (1, zk_I x1)]) hx hb dX1_mean_71 hl (k := 3) rfl (by decide) (fun _ => rfl) hf (fun x4_7 hf ls hl => ?_)
        refine lv_goto (tgt := 44) hx hb dX1_mean_74 (by decide) ?_
        obtain rfl := zk_so hf
        exact ih44 _ _ _ _ H locs ls hc44 (lv_sub hl [2, 3, 1, 0] rfl) hP hS
  refine zk_iloadn hx hb dX1_mean_0 rfl (lv_at hl 1 rfl) ?_
  obtain ⟨v1, hq, hf⟩ := zk_bs hf
  refine zk_callSS (As := [zk_I p1]) (rest := []) ⟨hx, hb, hml, hown, hts⟩ (zw_X1_isRow l p1 _ hq) (va_cwS 1 hts (lw_S q1023 q1024 q88 q1025) rfl rfl rfl (by decide +kernel) ⟨Nat.le_of_ble_eq_true rfl, Nat.le_of_ble_eq_true rfl⟩) hP hS rfl hl.1 rfl (Nat.le_of_ble_eq_true rfl) dX1_mean_1 ⟨Nat.le_of_ble_eq_true rfl, Nat.le_of_ble_eq_true rfl⟩ (fun H locs hP hS => ?_)
  refine zk_if_ne (tgt := 9) hx hb dX1_mean_4 (by decide) hf (fun h => h) (fun hf => ?_) (fun hf => ?_)
  · refine lv_aload_n hx hb dX1_mean_9 rfl (lv_at hl 0 rfl) ?_
    refine zm_rget hx hb hts hown hK hP 3 (by decide) q952 rfl dX1_mean_10 ?_
    refine zk_iloadn hx hb dX1_mean_13 rfl (lv_at hl 1 rfl) ?_
    refine zk_iald hx hb hK hP 3 0 rfl rfl (N := 6) ⟨by decide, by decide⟩ hf dX1_mean_14 (fun hf => ?_)
    refine zk_if_ge (tgt := 24) hx hb dX1_mean_15 (by decide) hf (fun h => h) (fun hf => ?_) (fun hf => ?_)
    · refine lv_aload_n hx hb dX1_mean_24 rfl (lv_at hl 0 rfl) ?_
      refine zm_rget hx hb hts hown hK hP 3 (by decide) q952 rfl dX1_mean_25 ?_
      refine zk_iloadn hx hb dX1_mean_28 rfl (lv_at hl 1 rfl) ?_
      refine zk_iald hx hb hK hP 3 0 rfl rfl (N := 6) ⟨by decide, by decide⟩ hf dX1_mean_29 (fun hf => ?_)
      refine zk_if_ne (tgt := 39) hx hb dX1_mean_30 (by decide) hf (fun h => h) (fun hf => ?_) (fun hf => ?_)
      · refine zk_lconst (v := 0) hx hb dX1_mean_39 rfl ?_
        refine lv_lstore_n (lv' := [(2, zk_L 0), (0, .ref o), (1, zk_I p1)]) hx hb dX1_mean_40 rfl hl (by decide) rfl (fun ls hl => ?_)
        refine zk_iconst hx hb dX1_mean_41 ?_
        refine lv_istore (lv' := [(4, zk_I 0), (2, zk_L 0), (0, .ref o), (1, zk_I p1)]) hx hb dX1_mean_42 hl (by decide) rfl (fun ls hl => ?_)
        exact hL44 N _ _ _ _ H locs ls hf (lv_sub hl [2, 3, 1, 0] rfl) hP hS
      · refine lv_aload_n hx hb dX1_mean_33 rfl (lv_at hl 0 rfl) ?_
        refine zk_iconst hx hb dX1_mean_34 ?_
        obtain ⟨v2, s3, hq, hf⟩ := zk_b2s hf
        refine zk_callVW (As := [zk_I 4]) (rest := []) ⟨hx, hb, hml, hown, hts⟩ (zw_X1_find l hD 4 σ _ _ hq) (cwV 1 hts (lw_V q1030 q1032 qs40 q88 q1033) rfl rfl rfl (by decide +kernel) ⟨Nat.le_of_ble_eq_true rfl, Nat.le_of_ble_eq_true rfl⟩) hKX hP hS (va_recv hK hP (ci := 1) (q0 := 0) rfl rfl) rfl hl.1 rfl (Nat.le_of_ble_eq_true rfl) dX1_mean_35 ⟨Nat.le_of_ble_eq_true rfl, Nat.le_of_ble_eq_true rfl⟩ (fun H locs hP hS => ?_)
        exact zk_iret hx hb hr hlk (zk_p1 hf) (zk_pB hf hP) hS dX1_mean_38
    · refine lv_aload_n hx hb dX1_mean_18 rfl (lv_at hl 0 rfl) ?_
      refine zk_iconst hx hb dX1_mean_19 ?_
      obtain ⟨v4, s5, hq, hf⟩ := zk_b2s hf
      refine zk_callVW (As := [zk_I 1]) (rest := []) ⟨hx, hb, hml, hown, hts⟩ (zw_X1_find l hD 1 σ _ _ hq) (cwV 1 hts (lw_V q1030 q1032 qs40 q88 q1033) rfl rfl rfl (by decide +kernel) ⟨Nat.le_of_ble_eq_true rfl, Nat.le_of_ble_eq_true rfl⟩) hKX hP hS (va_recv hK hP (ci := 1) (q0 := 0) rfl rfl) rfl hl.1 rfl (Nat.le_of_ble_eq_true rfl) dX1_mean_20 ⟨Nat.le_of_ble_eq_true rfl, Nat.le_of_ble_eq_true rfl⟩ (fun H locs hP hS => ?_)
      exact zk_iret hx hb hr hlk (zk_p1 hf) (zk_pB hf hP) hS dX1_mean_23
  · refine zk_iconst hx hb dX1_mean_7 ?_
    exact zk_iret hx hb hr hlk (zk_p1 hf) (zk_pB hf hP) hS dX1_mean_8
abbrev zw_X1_isText_rm : Room := { frames := 2, cells := 0, slots := 0, locals := 57 }
abbrev zw_X1_isText_vs (p0 : Int) : List Value := [zk_I p0]
set_option maxHeartbeats 4000000 in
set_option maxRecDepth 100000 in
theorem zw_X1_isText (l : Launch) (p0 : Int) (r : Int) (hf : zm_isText p0 = some r) : zk_MS l yX1_isText (ws_ yX1_isText cX1_isText 1 (Option.some Jvm.ClassFile.FieldType.boolean)) zw_X1_isText_rm (zw_X1_isText_vs p0) (some (zk_I r)) := by
  refine zk_startS (by decide +kernel) (Nat.le_of_ble_eq_true rfl) (fun p e s m below meth c H locs ls hx hb hr hlk hml hown hts hS hl => ?_)
  have hl : lv_has ls 1 [(0, zk_I p0)] := hl
  have hown : s.vm.findClass RX1 = some m.cls := hown
  have hf : zm_isText p0 = some r := hf
  refine zk_iloadn hx hb dX1_isText_0 rfl (lv_at hl 0 rfl) ?_
  refine zk_ri2l hx hb dX1_isText_1 hf (fun hf => ?_)
  refine zk_lconst (v := 0) hx hb dX1_isText_2 rfl ?_
  refine zk_ldc2 hx hb 3 hown (hts _ q1077) rfl dX1_isText_3 ?_
  obtain ⟨v1, hq, hf⟩ := zk_bs hf
  refine zk_callS0 (As := [zk_L p0, zk_L 0, zk_L 3]) (rest := []) ⟨hx, hb, hml, hown, hts⟩ (zw_X1_in l p0 0 3 _ hq) (va_cwS 3 hts (lw_S q1027 q1028 q88 q1029) rfl rfl rfl (by decide +kernel) ⟨Nat.le_of_ble_eq_true rfl, Nat.le_of_ble_eq_true rfl⟩) hS rfl hl.1 rfl (Nat.le_of_ble_eq_true rfl) dX1_isText_6 ⟨Nat.le_of_ble_eq_true rfl, Nat.le_of_ble_eq_true rfl⟩ (fun H locs hS => ?_)
  obtain ⟨hz, hf⟩ := zk_gs hf
  exact zk_zret hx hb hr hlk hz (Option.some.inj hf) (fun _ _ => trivial) hS dX1_isText_9
abbrev zw_X1_text_rm : Room := { frames := 3, cells := 0, slots := 0, locals := 77 }
abbrev zw_X1_text_vs (o : Nat) (p1 p2 : Int) : List Value := [.ref o, zk_I p1, zk_I p2]
set_option maxHeartbeats 4000000 in
set_option maxRecDepth 100000 in
theorem zw_X1_text (l : Launch) {D : va_G} {o : Nat} {a : Nat → Nat} {dA : Nat → ClassId} {A : Nat → Prop} (hD : ∀ τ, va_D A (zm_P o a dA τ)) (N : Nat) (p1 p2 : Int) (σ : ZS) (r : Int) (σ' : ZS) (hf : zm_text N p1 p2 σ = some (r, σ')) : zk_MW l yX1_text (ws_ yX1_text cX1_text 4 (Option.some Jvm.ClassFile.FieldType.int)) zw_X1_text_rm D zk_cl (zk_ty dA) A (zw_X1_text_vs o p1 p2) (zm_P o a dA σ) (zm_P o a dA σ') (some (zk_I r)) := by
  refine zk_startW (by decide +kernel) (Nat.le_of_ble_eq_true rfl) (fun p e s m below meth c H locs ls hx hb hr hlk hml hown hts hKX hP hS hl => ?_)
  have hl : lv_has ls 4 [(0, .ref o), (1, zk_I p1), (2, zk_I p2)] := hl
  have hK := hKX.1
  have hown : s.vm.findClass RX1 = some m.cls := hown
  have hf : zm_text N p1 p2 σ = some (r, σ') := hf
  have hJ59 : ∀ (x2 : Int) (s0 : ZS) (H : Heap) (locs : List Loc) (ls : Array Slot), zm_text_j59 N x2 s0 = some (r, σ') → lv_has ls 4 [(2, zk_I x2)] → va_P D zk_cl (zm_P o a dA s0) H → va_S A s.heap H locs → W p l e zw_X1_text_rm s m (zw_X1_text_vs o p1 p2).toArray below meth c H locs 0 0 (MQ below (zk_Q (some (zk_I r)) (fun t => va_P D zk_cl (zm_P o a dA σ') t.heap) A) (zw_X1_text_vs o p1 p2).toArray s 0 0 A) (F0 m 59 ls []) := by
    intro x2 s0 H locs ls hf hl hP hS
    refine zk_iloadn hx hb dX1_text_59 rfl (lv_at hl 0 rfl) ?_
    exact zk_iret hx hb hr hlk (zk_p1 hf) (zk_pB hf hP) hS dX1_text_60
  have hL34 : ∀ (n : Nat) (x1 x2 x3 : Int) (s0 : ZS) (H : Heap) (locs : List Loc) (ls : Array Slot), zk_b (zk_loop (α := Int × ZS) (β := ZS) n (fun a => zm_text_b34 N x1 x2 a.1 a.2) (x3, s0)) (fun e => zm_text_j59 N x2 e) = some (r, σ') → lv_has ls 4 [(0, .ref o), (1, zk_I x1), (2, zk_I x2), (3, zk_I x3)] → va_P D zk_cl (zm_P o a dA s0) H → va_S A s.heap H locs → W p l e zw_X1_text_rm s m (zw_X1_text_vs o p1 p2).toArray below meth c H locs 0 0 (MQ below (zk_Q (some (zk_I r)) (fun t => va_P D zk_cl (zm_P o a dA σ') t.heap) A) (zw_X1_text_vs o p1 p2).toArray s 0 0 A) (F0 m 34 ls []) := by
    intro n
    induction n with
    | zero => intro x1 x2 x3 s0 H locs ls hf; exact (zk_l0 hf).elim
    | succ n ih34 =>
      intro x1 x2 x3 s0 H locs ls hf hl hP hS
      obtain ⟨c34, hf, hc34⟩ := zk_ls hf
      refine zk_iloadn hx hb dX1_text_34 rfl (lv_at hl 3 rfl) ?_
      refine zk_bipush hx hb dX1_text_35 (by decide) ?_
      refine zk_icmp_ge (tgt := 59) hx hb dX1_text_37 (by decide) hf (fun h => ⟨h, by decide⟩) (fun hf => ?_) (fun hf => ?_)
      · obtain rfl := zk_so hf
        exact hJ59 _ _ H locs ls hc34 (lv_sub hl [2] rfl) hP hS
      · refine lv_aload_n hx hb dX1_text_40 rfl (lv_at hl 0 rfl) ?_
        refine zm_rget hx hb hts hown hK hP 6 (by decide) q955 rfl dX1_text_41 ?_
        refine zk_bipush hx hb dX1_text_44 (by decide) ?_
        refine zk_iloadn hx hb dX1_text_46 rfl (lv_at hl 1 rfl) ?_
        refine zk_imul hx hb dX1_text_47 ?_
        refine zk_iloadn hx hb dX1_text_48 rfl (lv_at hl 3 rfl) ?_
        refine zk_iadd hx hb dX1_text_49 ?_
        refine zk_bipush hx hb dX1_text_50 (by decide) ?_
        refine zk_iastN hx hb hK hP hD hS 6 0 6 rfl rfl (N := 240) ⟨by decide, by decide⟩ (zm_t6 _ _ _) hf dX1_text_52 (fun s5 H locs hf hP hS => ?_)
        refine zk_iincN (lv' := fun x3_6 => [(3, zk_I x3_6), (0, .ref o), (1, zk_I x1), (2, zk_I x2)]) hx hb dX1_text_53 hl (k := 3) rfl (by decide) (fun _ => rfl) hf (fun x3_6 hf ls hl => ?_)
        refine lv_goto (tgt := 34) hx hb dX1_text_56 (by decide) ?_
        obtain rfl := zk_so hf
        exact ih34 _ _ _ _ H locs ls hc34 (lv_sub hl [1, 2, 3, 0] rfl) hP hS
  refine zk_iloadn hx hb dX1_text_0 rfl (lv_at hl 1 rfl) ?_
  obtain ⟨v1, hq, hf⟩ := zk_bs hf
  refine zk_callSS (As := [zk_I p1]) (rest := []) ⟨hx, hb, hml, hown, hts⟩ (zw_X1_isText l p1 _ hq) (va_cwS 1 hts (lw_S q1074 q1075 q88 q1076) rfl rfl rfl (by decide +kernel) ⟨Nat.le_of_ble_eq_true rfl, Nat.le_of_ble_eq_true rfl⟩) hP hS rfl hl.1 rfl (Nat.le_of_ble_eq_true rfl) dX1_text_1 ⟨Nat.le_of_ble_eq_true rfl, Nat.le_of_ble_eq_true rfl⟩ (fun H locs hP hS => ?_)
  refine zk_if_eq (tgt := 13) hx hb dX1_text_4 (by decide) hf (fun h => h) (fun hf => ?_) (fun hf => ?_)
  · refine zk_iconst hx hb dX1_text_13 ?_
    exact zk_iret hx hb hr hlk (zk_p1 hf) (zk_pB hf hP) hS dX1_text_14
  · refine zk_iloadn hx hb dX1_text_7 rfl (lv_at hl 2 rfl) ?_
    refine zk_bipush hx hb dX1_text_8 (by decide) ?_
    refine zk_icmp_le (tgt := 15) hx hb dX1_text_10 (by decide) hf (fun h => ⟨h, by decide⟩) (fun hf => ?_) (fun hf => ?_)
    · refine zk_iloadn hx hb dX1_text_15 rfl (lv_at hl 2 rfl) ?_
      refine zk_if_ge (tgt := 25) hx hb dX1_text_16 (by decide) hf (fun h => h) (fun hf => ?_) (fun hf => ?_)
      · refine lv_aload_n hx hb dX1_text_25 rfl (lv_at hl 0 rfl) ?_
        refine zm_rget hx hb hts hown hK hP 5 (by decide) q954 rfl dX1_text_26 ?_
        refine zk_iloadn hx hb dX1_text_29 rfl (lv_at hl 1 rfl) ?_
        refine zk_iloadn hx hb dX1_text_30 rfl (lv_at hl 2 rfl) ?_
        refine zk_iastN hx hb hK hP hD hS 5 0 5 rfl rfl (N := 4) ⟨by decide, by decide⟩ (zm_t5 _ _ _) hf dX1_text_31 (fun s2 H locs hf hP hS => ?_)
        refine zk_iconst hx hb dX1_text_32 ?_
        refine lv_istore_n (lv' := [(3, zk_I 0), (0, .ref o), (1, zk_I p1), (2, zk_I p2)]) hx hb dX1_text_33 rfl hl (by decide) rfl (fun ls hl => ?_)
        exact hL34 N _ _ _ _ H locs ls hf (lv_sub hl [1, 2, 3, 0] rfl) hP hS
      · refine lv_aload_n hx hb dX1_text_19 rfl (lv_at hl 0 rfl) ?_
        refine zk_iconst hx hb dX1_text_20 ?_
        obtain ⟨v3, s4, hq, hf⟩ := zk_b2s hf
        refine zk_callVW (As := [zk_I 5]) (rest := []) ⟨hx, hb, hml, hown, hts⟩ (zw_X1_find l hD 5 σ _ _ hq) (cwV 1 hts (lw_V q1030 q1032 qs40 q88 q1033) rfl rfl rfl (by decide +kernel) ⟨Nat.le_of_ble_eq_true rfl, Nat.le_of_ble_eq_true rfl⟩) hKX hP hS (va_recv hK hP (ci := 1) (q0 := 0) rfl rfl) rfl hl.1 rfl (Nat.le_of_ble_eq_true rfl) dX1_text_21 ⟨Nat.le_of_ble_eq_true rfl, Nat.le_of_ble_eq_true rfl⟩ (fun H locs hP hS => ?_)
        exact zk_iret hx hb hr hlk (zk_p1 hf) (zk_pB hf hP) hS dX1_text_24
    · refine zk_iconst hx hb dX1_text_13 ?_
      exact zk_iret hx hb hr hlk (zk_p1 hf) (zk_pB hf hP) hS dX1_text_14
abbrev zw_X1_put_rm : Room := { frames := 3, cells := 0, slots := 0, locals := 77 }
abbrev zw_X1_put_vs (o : Nat) (p1 p2 p3 : Int) : List Value := [.ref o, zk_I p1, zk_I p2, zk_I p3]
set_option maxHeartbeats 4000000 in
set_option maxRecDepth 100000 in
theorem zw_X1_put (l : Launch) {D : va_G} {o : Nat} {a : Nat → Nat} {dA : Nat → ClassId} {A : Nat → Prop} (hD : ∀ τ, va_D A (zm_P o a dA τ)) (p1 p2 p3 : Int) (σ : ZS) (r : Int) (σ' : ZS) (hf : zm_put p1 p2 p3 σ = some (r, σ')) : zk_MW l yX1_put (ws_ yX1_put cX1_put 5 (Option.some Jvm.ClassFile.FieldType.int)) zw_X1_put_rm D zk_cl (zk_ty dA) A (zw_X1_put_vs o p1 p2 p3) (zm_P o a dA σ) (zm_P o a dA σ') (some (zk_I r)) := by
  refine zk_startW (by decide +kernel) (Nat.le_of_ble_eq_true rfl) (fun p e s m below meth c H locs ls hx hb hr hlk hml hown hts hKX hP hS hl => ?_)
  have hl : lv_has ls 5 [(0, .ref o), (1, zk_I p1), (2, zk_I p2), (3, zk_I p3)] := hl
  have hK := hKX.1
  have hown : s.vm.findClass RX1 = some m.cls := hown
  have hf : zm_put p1 p2 p3 σ = some (r, σ') := hf
  refine zk_iloadn hx hb dX1_put_0 rfl (lv_at hl 1 rfl) ?_
  obtain ⟨v1, hq, hf⟩ := zk_bs hf
  refine zk_callSS (As := [zk_I p1]) (rest := []) ⟨hx, hb, hml, hown, hts⟩ (zw_X1_isText l p1 _ hq) (va_cwS 1 hts (lw_S q1074 q1075 q88 q1076) rfl rfl rfl (by decide +kernel) ⟨Nat.le_of_ble_eq_true rfl, Nat.le_of_ble_eq_true rfl⟩) hP hS rfl hl.1 rfl (Nat.le_of_ble_eq_true rfl) dX1_put_1 ⟨Nat.le_of_ble_eq_true rfl, Nat.le_of_ble_eq_true rfl⟩ (fun H locs hP hS => ?_)
  refine zk_if_ne (tgt := 9) hx hb dX1_put_4 (by decide) hf (fun h => h) (fun hf => ?_) (fun hf => ?_)
  · refine lv_aload_n hx hb dX1_put_9 rfl (lv_at hl 0 rfl) ?_
    refine zm_rget hx hb hts hown hK hP 5 (by decide) q954 rfl dX1_put_10 ?_
    refine zk_iloadn hx hb dX1_put_13 rfl (lv_at hl 1 rfl) ?_
    refine zk_iald hx hb hK hP 5 0 rfl rfl (N := 4) ⟨by decide, by decide⟩ hf dX1_put_14 (fun hf => ?_)
    refine zk_if_ge (tgt := 24) hx hb dX1_put_15 (by decide) hf (fun h => h) (fun hf => ?_) (fun hf => ?_)
    · refine zk_iloadn hx hb dX1_put_24 rfl (lv_at hl 2 rfl) ?_
      refine zk_ri2l hx hb dX1_put_25 hf (fun hf => ?_)
      refine zk_lconst (v := 0) hx hb dX1_put_26 rfl ?_
      refine lv_aload_n hx hb dX1_put_27 rfl (lv_at hl 0 rfl) ?_
      refine zm_rget hx hb hts hown hK hP 5 (by decide) q954 rfl dX1_put_28 ?_
      refine zk_iloadn hx hb dX1_put_31 rfl (lv_at hl 1 rfl) ?_
      refine zk_iald hx hb hK hP 5 0 rfl rfl (N := 4) ⟨by decide, by decide⟩ hf dX1_put_32 (fun hf => ?_)
      refine zk_iconst hx hb dX1_put_33 ?_
      refine zk_isub hx hb dX1_put_34 ?_
      refine zk_ri2l hx hb dX1_put_35 hf (fun hf => ?_)
      obtain ⟨v2, hq, hf⟩ := zk_bs hf
      refine zk_callSS (As := [zk_L p2, zk_L 0, zk_L (σ 5 p1 - 1)]) (rest := []) ⟨hx, hb, hml, hown, hts⟩ (zw_X1_in l p2 0 (σ 5 p1 - 1) _ hq) (va_cwS 3 hts (lw_S q1027 q1028 q88 q1029) rfl rfl rfl (by decide +kernel) ⟨Nat.le_of_ble_eq_true rfl, Nat.le_of_ble_eq_true rfl⟩) hP hS rfl hl.1 rfl (Nat.le_of_ble_eq_true rfl) dX1_put_36 ⟨Nat.le_of_ble_eq_true rfl, Nat.le_of_ble_eq_true rfl⟩ (fun H locs hP hS => ?_)
      refine zk_if_ne (tgt := 48) hx hb dX1_put_39 (by decide) hf (fun h => h) (fun hf => ?_) (fun hf => ?_)
      · refine lv_aload_n hx hb dX1_put_48 rfl (lv_at hl 0 rfl) ?_
        refine zm_rget hx hb hts hown hK hP 6 (by decide) q955 rfl dX1_put_49 ?_
        refine zk_bipush hx hb dX1_put_52 (by decide) ?_
        refine zk_iloadn hx hb dX1_put_54 rfl (lv_at hl 1 rfl) ?_
        refine zk_imul hx hb dX1_put_55 ?_
        refine zk_iloadn hx hb dX1_put_56 rfl (lv_at hl 2 rfl) ?_
        refine zk_iadd hx hb dX1_put_57 ?_
        refine zk_iald hx hb hK hP 6 0 rfl rfl (N := 240) ⟨by decide, by decide⟩ hf dX1_put_58 (fun hf => ?_)
        refine zk_istoreN (lv' := fun x4_3 => [(4, zk_I x4_3), (0, .ref o), (1, zk_I p1), (2, zk_I p2), (3, zk_I p3)]) hx hb dX1_put_59 hl (by decide) (fun _ => rfl) hf (fun x4_3 hf ls hl => ?_)
        refine lv_aload_n hx hb dX1_put_61 rfl (lv_at hl 1 rfl) ?_
        refine zm_rget hx hb hts hown hK hP 6 (by decide) q955 rfl dX1_put_62 ?_
        refine zk_bipush hx hb dX1_put_65 (by decide) ?_
        refine zk_iloadn hx hb dX1_put_67 rfl (lv_at hl 2 rfl) ?_
        refine zk_imul hx hb dX1_put_68 ?_
        refine zk_iloadn hx hb dX1_put_69 rfl (lv_at hl 3 rfl) ?_
        refine zk_iadd hx hb dX1_put_70 ?_
        refine zk_iloadn hx hb dX1_put_71 rfl (lv_at hl 4 rfl) ?_
        refine zk_ri2b hx hb dX1_put_72 ?_
        refine zk_iastN hx hb hK hP hD hS 6 0 6 rfl rfl (N := 240) ⟨by decide, by decide⟩ (zm_t6 _ _ _) hf dX1_put_73 (fun s4 H locs hf hP hS => ?_)
        refine zk_iload hx hb dX1_put_74 (lv_at hl 0 rfl) ?_
        refine zk_sipush hx hb dX1_put_76 (by decide) ?_
        refine zk_iadd hx hb dX1_put_79 ?_
        exact zk_iret hx hb hr hlk (zk_p1 hf) (zk_pB hf hP) hS dX1_put_80
      · refine lv_aload_n hx hb dX1_put_42 rfl (lv_at hl 0 rfl) ?_
        refine zk_iconst hx hb dX1_put_43 ?_
        obtain ⟨v5, s6, hq, hf⟩ := zk_b2s hf
        refine zk_callVW (As := [zk_I 2]) (rest := []) ⟨hx, hb, hml, hown, hts⟩ (zw_X1_find l hD 2 σ _ _ hq) (cwV 1 hts (lw_V q1030 q1032 qs40 q88 q1033) rfl rfl rfl (by decide +kernel) ⟨Nat.le_of_ble_eq_true rfl, Nat.le_of_ble_eq_true rfl⟩) hKX hP hS (va_recv hK hP (ci := 1) (q0 := 0) rfl rfl) rfl hl.1 rfl (Nat.le_of_ble_eq_true rfl) dX1_put_44 ⟨Nat.le_of_ble_eq_true rfl, Nat.le_of_ble_eq_true rfl⟩ (fun H locs hP hS => ?_)
        exact zk_iret hx hb hr hlk (zk_p1 hf) (zk_pB hf hP) hS dX1_put_47
    · refine lv_aload_n hx hb dX1_put_18 rfl (lv_at hl 0 rfl) ?_
      refine zk_iconst hx hb dX1_put_19 ?_
      obtain ⟨v7, s8, hq, hf⟩ := zk_b2s hf
      refine zk_callVW (As := [zk_I 1]) (rest := []) ⟨hx, hb, hml, hown, hts⟩ (zw_X1_find l hD 1 σ _ _ hq) (cwV 1 hts (lw_V q1030 q1032 qs40 q88 q1033) rfl rfl rfl (by decide +kernel) ⟨Nat.le_of_ble_eq_true rfl, Nat.le_of_ble_eq_true rfl⟩) hKX hP hS (va_recv hK hP (ci := 1) (q0 := 0) rfl rfl) rfl hl.1 rfl (Nat.le_of_ble_eq_true rfl) dX1_put_20 ⟨Nat.le_of_ble_eq_true rfl, Nat.le_of_ble_eq_true rfl⟩ (fun H locs hP hS => ?_)
      exact zk_iret hx hb hr hlk (zk_p1 hf) (zk_pB hf hP) hS dX1_put_23
  · refine zk_iconst hx hb dX1_put_7 ?_
    exact zk_iret hx hb hr hlk (zk_p1 hf) (zk_pB hf hP) hS dX1_put_8
abbrev zw_X1_here_rm : Room := { frames := 1, cells := 0, slots := 0, locals := 32 }
abbrev zw_X1_here_vs (o : Nat) : List Value := [.ref o]
set_option maxHeartbeats 4000000 in
set_option maxRecDepth 100000 in
theorem zw_X1_here (l : Launch) {D : va_G} {o : Nat} {a : Nat → Nat} {dA : Nat → ClassId} (σ : ZS) (r : Int) (hf : zm_here  σ = some r) : zk_MR l yX1_here (ws_ yX1_here cX1_here 1 (Option.some Jvm.ClassFile.FieldType.int)) zw_X1_here_rm D zk_cl (zk_ty dA) (zw_X1_here_vs o) (zm_P o a dA σ) (some (zk_I r)) := by
  refine zk_startW (by decide +kernel) (Nat.le_of_ble_eq_true rfl) (fun p e s m below meth c H locs ls hx hb hr hlk hml hown hts hKX hP hS hl => ?_)
  have hl : lv_has ls 1 [(0, .ref o)] := hl
  have hK := hKX.1
  have hown : s.vm.findClass RX1 = some m.cls := hown
  have hf : zm_here  σ = some r := hf
  refine lv_aload_n hx hb dX1_here_0 rfl (lv_at hl 0 rfl) ?_
  refine zm_rget hx hb hts hown hK hP 6 (by decide) q955 rfl dX1_here_1 ?_
  refine lv_aload_n hx hb dX1_here_4 rfl (lv_at hl 0 rfl) ?_
  refine zm_rget hx hb hts hown hK hP 12 (by decide) q961 rfl dX1_here_5 ?_
  refine lv_aload_n hx hb dX1_here_8 rfl (lv_at hl 0 rfl) ?_
  refine zm_rget hx hb hts hown hK hP 13 (by decide) q962 rfl dX1_here_9 ?_
  refine zk_iadd hx hb dX1_here_12 ?_
  refine zk_iald hx hb hK hP 6 0 rfl rfl (N := 240) ⟨by decide, by decide⟩ hf dX1_here_13 (fun hf => ?_)
  exact zk_iret hx hb hr hlk (Option.some.inj hf) (fun _ _ => trivial) hS dX1_here_14
abbrev zw_X1_skip_rm : Room := { frames := 2, cells := 0, slots := 0, locals := 52 }
abbrev zw_X1_skip_vs (o : Nat) : List Value := [.ref o]
set_option maxHeartbeats 4000000 in
set_option maxRecDepth 100000 in
theorem zw_X1_skip (l : Launch) {D : va_G} {o : Nat} {a : Nat → Nat} {dA : Nat → ClassId} {A : Nat → Prop} (hD : ∀ τ, va_D A (zm_P o a dA τ)) (N : Nat) (σ : ZS) (r : Int) (σ' : ZS) (hf : zm_skip N  σ = some (r, σ')) : zk_MW l yX1_skip (ws_ yX1_skip cX1_skip 1 (Option.none : Option Jvm.ClassFile.FieldType)) zw_X1_skip_rm D zk_cl (zk_ty dA) A (zw_X1_skip_vs o) (zm_P o a dA σ) (zm_P o a dA σ') none := by
  refine zk_startW (by decide +kernel) (Nat.le_of_ble_eq_true rfl) (fun p e s m below meth c H locs ls hx hb hr hlk hml hown hts hKX hP hS hl => ?_)
  have hl : lv_has ls 1 [(0, .ref o)] := hl
  have hK := hKX.1
  have hown : s.vm.findClass RX1 = some m.cls := hown
  have hf : zm_skip N  σ = some (r, σ') := hf
  have hJ33 : ∀ (s0 : ZS) (H : Heap) (locs : List Loc) (ls : Array Slot), zm_skip_j33 N  s0 = some (r, σ') → lv_has ls 1 [] → va_P D zk_cl (zm_P o a dA s0) H → va_S A s.heap H locs → W p l e zw_X1_skip_rm s m (zw_X1_skip_vs o).toArray below meth c H locs 0 0 (MQ below (zk_Q none (fun t => va_P D zk_cl (zm_P o a dA σ') t.heap) A) (zw_X1_skip_vs o).toArray s 0 0 A) (F0 m 33 ls []) := by
    intro s0 H locs ls hf hl hP hS
    exact zk_vret hx hb hr hlk (zk_pB hf hP) hS dX1_skip_33
  have hL0 : ∀ (n : Nat) (s0 : ZS) (H : Heap) (locs : List Loc) (ls : Array Slot), zk_b (zk_loop (α := ZS) (β := ZS) n (fun a => zm_skip_b0 N a) (s0)) (fun e => zm_skip_j33 N e) = some (r, σ') → lv_has ls 1 [(0, .ref o)] → va_P D zk_cl (zm_P o a dA s0) H → va_S A s.heap H locs → W p l e zw_X1_skip_rm s m (zw_X1_skip_vs o).toArray below meth c H locs 0 0 (MQ below (zk_Q none (fun t => va_P D zk_cl (zm_P o a dA σ') t.heap) A) (zw_X1_skip_vs o).toArray s 0 0 A) (F0 m 0 ls []) := by
    intro n
    induction n with
    | zero => intro s0 H locs ls hf; exact (zk_l0 hf).elim
    | succ n ih0 =>
      intro s0 H locs ls hf hl hP hS
      obtain ⟨c0, hf, hc0⟩ := zk_ls hf
      refine lv_aload_n hx hb dX1_skip_0 rfl (lv_at hl 0 rfl) ?_
      refine zm_rget hx hb hts hown hK hP 13 (by decide) q962 rfl dX1_skip_1 ?_
      refine lv_aload_n hx hb dX1_skip_4 rfl (lv_at hl 0 rfl) ?_
      refine zm_rget hx hb hts hown hK hP 14 (by decide) q963 rfl dX1_skip_5 ?_
      refine zk_icmp_ge (tgt := 33) hx hb dX1_skip_8 (by decide) hf (fun h => h) (fun hf => ?_) (fun hf => ?_)
      · obtain rfl := zk_so hf
        exact hJ33 _ H locs ls hc0 (lv_sub hl [] rfl) hP hS
      · refine lv_aload_n hx hb dX1_skip_11 rfl (lv_at hl 0 rfl) ?_
        obtain ⟨v3, hq, hf⟩ := zk_bs hf
        refine zk_callVR (As := []) (rest := []) ⟨hx, hb, hml, hown, hts⟩ (zw_X1_here l  s0 _ hq) (cwV 0 hts (lw_V q1098 q1100 qs48 q88 q1101) rfl rfl rfl (by decide +kernel) ⟨Nat.le_of_ble_eq_true rfl, Nat.le_of_ble_eq_true rfl⟩) hKX hP hS (va_recv hK hP (ci := 1) (q0 := 0) rfl rfl) rfl hl.1 rfl (Nat.le_of_ble_eq_true rfl) dX1_skip_12 ⟨Nat.le_of_ble_eq_true rfl, Nat.le_of_ble_eq_true rfl⟩ (fun H locs hP hS => ?_)
        refine zk_bipush hx hb dX1_skip_15 (by decide) ?_
        refine zk_icmp_ne (tgt := 33) hx hb dX1_skip_17 (by decide) hf (fun h => ⟨h, by decide⟩) (fun hf => ?_) (fun hf => ?_)
        · obtain rfl := zk_so hf
          exact hJ33 _ H locs ls hc0 (lv_sub hl [] rfl) hP hS
        · refine lv_aload_n hx hb dX1_skip_20 rfl (lv_at hl 0 rfl) ?_
          refine lv_dup hx hb dX1_skip_21 rfl ?_
          refine zm_rget hx hb hts hown hK hP 13 (by decide) q962 rfl dX1_skip_22 ?_
          refine zk_iconst hx hb dX1_skip_25 ?_
          refine zk_iadd hx hb dX1_skip_26 ?_
          refine zm_rput hx hb hts hown hK hP hD hS 13 (by decide) q962 rfl rfl rfl (zm_s13 _ _) hf dX1_skip_27 (fun s4 H locs hf hP hS => ?_)
          refine lv_goto (tgt := 0) hx hb dX1_skip_30 (by decide) ?_
          obtain rfl := zk_so hf
          exact ih0 _ H locs ls hc0 (lv_sub hl [0] rfl) hP hS
  refine lv_aload_n hx hb dX1_skip_0 rfl (lv_at hl 0 rfl) ?_
  refine zm_rget hx hb hts hown hK hP 13 (by decide) q962 rfl dX1_skip_1 ?_
  refine lv_aload_n hx hb dX1_skip_4 rfl (lv_at hl 0 rfl) ?_
  refine zm_rget hx hb hts hown hK hP 14 (by decide) q963 rfl dX1_skip_5 ?_
  refine zk_icmp_ge (tgt := 33) hx hb dX1_skip_8 (by decide) hf (fun h => h) (fun hf => ?_) (fun hf => ?_)
  · exact zk_vret hx hb hr hlk (zk_pB hf hP) hS dX1_skip_33
  · refine lv_aload_n hx hb dX1_skip_11 rfl (lv_at hl 0 rfl) ?_
    obtain ⟨v1, hq, hf⟩ := zk_bs hf
    refine zk_callVR (As := []) (rest := []) ⟨hx, hb, hml, hown, hts⟩ (zw_X1_here l  σ _ hq) (cwV 0 hts (lw_V q1098 q1100 qs48 q88 q1101) rfl rfl rfl (by decide +kernel) ⟨Nat.le_of_ble_eq_true rfl, Nat.le_of_ble_eq_true rfl⟩) hKX hP hS (va_recv hK hP (ci := 1) (q0 := 0) rfl rfl) rfl hl.1 rfl (Nat.le_of_ble_eq_true rfl) dX1_skip_12 ⟨Nat.le_of_ble_eq_true rfl, Nat.le_of_ble_eq_true rfl⟩ (fun H locs hP hS => ?_)
    refine zk_bipush hx hb dX1_skip_15 (by decide) ?_
    refine zk_icmp_ne (tgt := 33) hx hb dX1_skip_17 (by decide) hf (fun h => ⟨h, by decide⟩) (fun hf => ?_) (fun hf => ?_)
    · exact zk_vret hx hb hr hlk (zk_pB hf hP) hS dX1_skip_33
    · refine lv_aload_n hx hb dX1_skip_20 rfl (lv_at hl 0 rfl) ?_
      refine lv_dup hx hb dX1_skip_21 rfl ?_
      refine zm_rget hx hb hts hown hK hP 13 (by decide) q962 rfl dX1_skip_22 ?_
      refine zk_iconst hx hb dX1_skip_25 ?_
      refine zk_iadd hx hb dX1_skip_26 ?_
      refine zm_rput hx hb hts hown hK hP hD hS 13 (by decide) q962 rfl rfl rfl (zm_s13 _ _) hf dX1_skip_27 (fun s2 H locs hf hP hS => ?_)
      refine lv_goto (tgt := 0) hx hb dX1_skip_30 (by decide) ?_
      exact hL0 N _ H locs ls hf (lv_sub hl [0] rfl) hP hS
abbrev zw_X1_figure_rm : Room := { frames := 2, cells := 0, slots := 0, locals := 57 }
abbrev zw_X1_figure_vs (o : Nat) : List Value := [.ref o]
set_option maxHeartbeats 4000000 in
set_option maxRecDepth 100000 in
theorem zw_X1_figure (l : Launch) {D : va_G} {o : Nat} {a : Nat → Nat} {dA : Nat → ClassId} {A : Nat → Prop} (hD : ∀ τ, va_D A (zm_P o a dA τ)) (σ : ZS) (r : Int) (σ' : ZS) (hf : zm_figure  σ = some (r, σ')) : zk_MW l yX1_figure (ws_ yX1_figure cX1_figure 1 (Option.some Jvm.ClassFile.FieldType.int)) zw_X1_figure_rm D zk_cl (zk_ty dA) A (zw_X1_figure_vs o) (zm_P o a dA σ) (zm_P o a dA σ') (some (zk_I r)) := by
  refine zk_startW (by decide +kernel) (Nat.le_of_ble_eq_true rfl) (fun p e s m below meth c H locs ls hx hb hr hlk hml hown hts hKX hP hS hl => ?_)
  have hl : lv_has ls 1 [(0, .ref o)] := hl
  have hK := hKX.1
  have hown : s.vm.findClass RX1 = some m.cls := hown
  have hf : zm_figure  σ = some (r, σ') := hf
  refine lv_aload_n hx hb dX1_figure_0 rfl (lv_at hl 0 rfl) ?_
  refine zm_rget hx hb hts hown hK hP 13 (by decide) q962 rfl dX1_figure_1 ?_
  refine lv_aload_n hx hb dX1_figure_4 rfl (lv_at hl 0 rfl) ?_
  refine zm_rget hx hb hts hown hK hP 14 (by decide) q963 rfl dX1_figure_5 ?_
  refine zk_icmp_eq (tgt := 28) hx hb dX1_figure_8 (by decide) hf (fun h => h) (fun hf => ?_) (fun hf => ?_)
  · refine zk_bipush hx hb dX1_figure_28 (by decide) ?_
    exact zk_iret hx hb hr hlk (zk_p1 hf) (zk_pB hf hP) hS dX1_figure_30
  · refine lv_aload_n hx hb dX1_figure_11 rfl (lv_at hl 0 rfl) ?_
    obtain ⟨v1, hq, hf⟩ := zk_bs hf
    refine zk_callVR (As := []) (rest := []) ⟨hx, hb, hml, hown, hts⟩ (zw_X1_here l  σ _ hq) (cwV 0 hts (lw_V q1098 q1100 qs48 q88 q1101) rfl rfl rfl (by decide +kernel) ⟨Nat.le_of_ble_eq_true rfl, Nat.le_of_ble_eq_true rfl⟩) hKX hP hS (va_recv hK hP (ci := 1) (q0 := 0) rfl rfl) rfl hl.1 rfl (Nat.le_of_ble_eq_true rfl) dX1_figure_12 ⟨Nat.le_of_ble_eq_true rfl, Nat.le_of_ble_eq_true rfl⟩ (fun H locs hP hS => ?_)
    refine zk_ri2l hx hb dX1_figure_15 hf (fun hf => ?_)
    refine zk_ldc2 hx hb 48 hown (hts _ q1106) rfl dX1_figure_16 ?_
    refine zk_ldc2 hx hb 57 hown (hts _ q1107) rfl dX1_figure_19 ?_
    obtain ⟨v2, hq, hf⟩ := zk_bs hf
    refine zk_callSS (As := [zk_L v1, zk_L 48, zk_L 57]) (rest := []) ⟨hx, hb, hml, hown, hts⟩ (zw_X1_in l v1 48 57 _ hq) (va_cwS 3 hts (lw_S q1027 q1028 q88 q1029) rfl rfl rfl (by decide +kernel) ⟨Nat.le_of_ble_eq_true rfl, Nat.le_of_ble_eq_true rfl⟩) hP hS rfl hl.1 rfl (Nat.le_of_ble_eq_true rfl) dX1_figure_22 ⟨Nat.le_of_ble_eq_true rfl, Nat.le_of_ble_eq_true rfl⟩ (fun H locs hP hS => ?_)
    refine zk_if_ne (tgt := 31) hx hb dX1_figure_25 (by decide) hf (fun h => h) (fun hf => ?_) (fun hf => ?_)
    · refine lv_aload_n hx hb dX1_figure_31 rfl (lv_at hl 0 rfl) ?_
      refine lv_dup hx hb dX1_figure_32 rfl ?_
      refine zm_rget hx hb hts hown hK hP 13 (by decide) q962 rfl dX1_figure_33 ?_
      refine zk_iconst hx hb dX1_figure_36 ?_
      refine zk_iadd hx hb dX1_figure_37 ?_
      refine zm_rput hx hb hts hown hK hP hD hS 13 (by decide) q962 rfl rfl rfl (zm_s13 _ _) hf dX1_figure_38 (fun s3 H locs hf hP hS => ?_)
      refine lv_aload_n hx hb dX1_figure_41 rfl (lv_at hl 0 rfl) ?_
      refine zm_rget hx hb hts hown hK hP 6 (by decide) q955 rfl dX1_figure_42 ?_
      refine lv_aload_n hx hb dX1_figure_45 rfl (lv_at hl 0 rfl) ?_
      refine zm_rget hx hb hts hown hK hP 12 (by decide) q961 rfl dX1_figure_46 ?_
      refine lv_aload_n hx hb dX1_figure_49 rfl (lv_at hl 0 rfl) ?_
      refine zm_rget hx hb hts hown hK hP 13 (by decide) q962 rfl dX1_figure_50 ?_
      refine zk_iadd hx hb dX1_figure_53 ?_
      refine zk_iconst hx hb dX1_figure_54 ?_
      refine zk_isub hx hb dX1_figure_55 ?_
      refine zk_iald hx hb hK hP 6 0 rfl rfl (N := 240) ⟨by decide, by decide⟩ hf dX1_figure_56 (fun hf => ?_)
      refine zk_bipush hx hb dX1_figure_57 (by decide) ?_
      refine zk_isub hx hb dX1_figure_59 ?_
      exact zk_iret hx hb hr hlk (zk_p1 hf) (zk_pB hf hP) hS dX1_figure_60
    · refine zk_bipush hx hb dX1_figure_28 (by decide) ?_
      exact zk_iret hx hb hr hlk (zk_p1 hf) (zk_pB hf hP) hS dX1_figure_30
abbrev zw_X1_readsFord_rm : Room := { frames := 3, cells := 0, slots := 0, locals := 77 }
abbrev zw_X1_readsFord_vs (o : Nat) : List Value := [.ref o]
set_option maxHeartbeats 4000000 in
set_option maxRecDepth 100000 in
theorem zw_X1_readsFord (l : Launch) {D : va_G} {o : Nat} {a : Nat → Nat} {dA : Nat → ClassId} {A : Nat → Prop} (hD : ∀ τ, va_D A (zm_P o a dA τ)) (N : Nat) (σ : ZS) (r : Int) (σ' : ZS) (hf : zm_readsFord N  σ = some (r, σ')) : zk_MW l yX1_readsFord (ws_ yX1_readsFord cX1_readsFord 1 (Option.some Jvm.ClassFile.FieldType.boolean)) zw_X1_readsFord_rm D zk_cl (zk_ty dA) A (zw_X1_readsFord_vs o) (zm_P o a dA σ) (zm_P o a dA σ') (some (zk_I r)) := by
  refine zk_startW (by decide +kernel) (Nat.le_of_ble_eq_true rfl) (fun p e s m below meth c H locs ls hx hb hr hlk hml hown hts hKX hP hS hl => ?_)
  have hl : lv_has ls 1 [(0, .ref o)] := hl
  have hK := hKX.1
  have hown : s.vm.findClass RX1 = some m.cls := hown
  have hf : zm_readsFord N  σ = some (r, σ') := hf
  refine lv_aload_n hx hb dX1_readsFord_0 rfl (lv_at hl 0 rfl) ?_
  obtain ⟨v1, s2, hq, hf⟩ := zk_b2s hf
  refine zk_callVW (As := []) (rest := []) ⟨hx, hb, hml, hown, hts⟩ (zw_X1_skip l hD N  σ _ _ hq) (cwV 0 hts (lw_V q1094 q1096 qs47 q88 q1097) rfl rfl rfl (by decide +kernel) ⟨Nat.le_of_ble_eq_true rfl, Nat.le_of_ble_eq_true rfl⟩) hKX hP hS (va_recv hK hP (ci := 1) (q0 := 0) rfl rfl) rfl hl.1 rfl (Nat.le_of_ble_eq_true rfl) dX1_readsFord_1 ⟨Nat.le_of_ble_eq_true rfl, Nat.le_of_ble_eq_true rfl⟩ (fun H locs hP hS => ?_)
  refine lv_aload_n hx hb dX1_readsFord_4 rfl (lv_at hl 0 rfl) ?_
  refine zm_rget hx hb hts hown hK hP 13 (by decide) q962 rfl dX1_readsFord_5 ?_
  refine lv_aload_n hx hb dX1_readsFord_8 rfl (lv_at hl 0 rfl) ?_
  refine zm_rget hx hb hts hown hK hP 14 (by decide) q963 rfl dX1_readsFord_9 ?_
  refine zk_icmp_eq (tgt := 24) hx hb dX1_readsFord_12 (by decide) hf (fun h => h) (fun hf => ?_) (fun hf => ?_)
  · refine zk_iconst hx hb dX1_readsFord_24 ?_
    exact zk_zret hx hb hr hlk (Or.inl rfl) (zk_p1 hf) (zk_pB hf hP) hS dX1_readsFord_25
  · refine lv_aload_n hx hb dX1_readsFord_15 rfl (lv_at hl 0 rfl) ?_
    obtain ⟨v3, hq, hf⟩ := zk_bs hf
    refine zk_callVR (As := []) (rest := []) ⟨hx, hb, hml, hown, hts⟩ (zw_X1_here l  s2 _ hq) (cwV 0 hts (lw_V q1098 q1100 qs48 q88 q1101) rfl rfl rfl (by decide +kernel) ⟨Nat.le_of_ble_eq_true rfl, Nat.le_of_ble_eq_true rfl⟩) hKX hP hS (va_recv hK hP (ci := 1) (q0 := 0) rfl rfl) rfl hl.1 rfl (Nat.le_of_ble_eq_true rfl) dX1_readsFord_16 ⟨Nat.le_of_ble_eq_true rfl, Nat.le_of_ble_eq_true rfl⟩ (fun H locs hP hS => ?_)
    refine zk_bipush hx hb dX1_readsFord_19 (by decide) ?_
    refine zk_icmp_eq (tgt := 26) hx hb dX1_readsFord_21 (by decide) hf (fun h => ⟨h, by decide⟩) (fun hf => ?_) (fun hf => ?_)
    · refine lv_aload_n hx hb dX1_readsFord_26 rfl (lv_at hl 0 rfl) ?_
      refine lv_dup hx hb dX1_readsFord_27 rfl ?_
      refine zm_rget hx hb hts hown hK hP 13 (by decide) q962 rfl dX1_readsFord_28 ?_
      refine zk_iconst hx hb dX1_readsFord_31 ?_
      refine zk_iadd hx hb dX1_readsFord_32 ?_
      refine zm_rput hx hb hts hown hK hP hD hS 13 (by decide) q962 rfl rfl rfl (zm_s13 _ _) hf dX1_readsFord_33 (fun s4 H locs hf hP hS => ?_)
      refine lv_aload_n hx hb dX1_readsFord_36 rfl (lv_at hl 0 rfl) ?_
      refine lv_aload_n hx hb dX1_readsFord_37 rfl (lv_at hl 0 rfl) ?_
      obtain ⟨v5, s6, hq, hf⟩ := zk_b2s hf
      refine zk_callVW (As := []) (rest := [.ref o]) ⟨hx, hb, hml, hown, hts⟩ (zw_X1_figure l hD  s4 _ _ hq) (cwV 0 hts (lw_V q1102 q1104 qs49 q88 q1105) rfl rfl rfl (by decide +kernel) ⟨Nat.le_of_ble_eq_true rfl, Nat.le_of_ble_eq_true rfl⟩) hKX hP hS (va_recv hK hP (ci := 1) (q0 := 0) rfl rfl) rfl hl.1 rfl (Nat.le_of_ble_eq_true rfl) dX1_readsFord_38 ⟨Nat.le_of_ble_eq_true rfl, Nat.le_of_ble_eq_true rfl⟩ (fun H locs hP hS => ?_)
      refine zm_rput hx hb hts hown hK hP hD hS 15 (by decide) q964 rfl rfl rfl (zm_s15 _ _) hf dX1_readsFord_41 (fun s7 H locs hf hP hS => ?_)
      refine lv_aload_n hx hb dX1_readsFord_44 rfl (lv_at hl 0 rfl) ?_
      refine zm_rget hx hb hts hown hK hP 15 (by decide) q964 rfl dX1_readsFord_45 ?_
      refine zk_bipush hx hb dX1_readsFord_48 (by decide) ?_
      obtain ⟨hg, hf⟩ := zk_gs hf
      have hV : W p l e zw_X1_readsFord_rm s m (zw_X1_readsFord_vs o).toArray below meth c H locs 0 0 (MQ below (zk_Q (some (zk_I r)) (fun t => va_P D zk_cl (zm_P o a dA σ') t.heap) A) (zw_X1_readsFord_vs o).toArray s 0 0 A) (F0 m 58 ls [zk_I (if (s7 15 0) = (-9) then 0 else 1)]) := by
        exact zk_zret hx hb hr hlk (zk_01 (by decide) (by decide)) (zk_p1 hf) (zk_pB hf hP) hS dX1_readsFord_58
      refine zk_icmp_eqV (tgt := 57) hx hb dX1_readsFord_50 (by decide) ((fun h => ⟨h, by decide⟩) hg) (fun hc => ?_) (fun hc => ?_)
      · rw [if_pos hc] at hV
        refine zk_iconst hx hb dX1_readsFord_57 ?_
        exact hV
      · rw [if_neg hc] at hV
        refine zk_iconst hx hb dX1_readsFord_53 ?_
        refine lv_goto (tgt := 58) hx hb dX1_readsFord_54 (by decide) ?_
        exact hV
    · refine zk_iconst hx hb dX1_readsFord_24 ?_
      exact zk_zret hx hb hr hlk (Or.inl rfl) (zk_p1 hf) (zk_pB hf hP) hS dX1_readsFord_25
abbrev zw_X1_kindOfLetter_rm : Room := { frames := 1, cells := 0, slots := 0, locals := 32 }
abbrev zw_X1_kindOfLetter_vs (p0 : Int) : List Value := [zk_I p0]
set_option maxHeartbeats 4000000 in
set_option maxRecDepth 100000 in
theorem zw_X1_kindOfLetter (l : Launch) (p0 : Int) (r : Int) (hf : zm_kindOfLetter p0 = some r) : zk_MS l yX1_kindOfLetter (ws_ yX1_kindOfLetter cX1_kindOfLetter 1 (Option.some Jvm.ClassFile.FieldType.int)) zw_X1_kindOfLetter_rm (zw_X1_kindOfLetter_vs p0) (some (zk_I r)) := by
  refine zk_startS (by decide +kernel) (Nat.le_of_ble_eq_true rfl) (fun p e s m below meth c H locs ls hx hb hr hlk hml hown hts hS hl => ?_)
  have hl : lv_has ls 1 [(0, zk_I p0)] := hl
  have hown : s.vm.findClass RX1 = some m.cls := hown
  have hf : zm_kindOfLetter p0 = some r := hf
  refine zk_iloadn hx hb dX1_kindOfLetter_0 rfl (lv_at hl 0 rfl) ?_
  refine zk_bipush hx hb dX1_kindOfLetter_1 (by decide) ?_
  refine zk_icmp_ne (tgt := 10) hx hb dX1_kindOfLetter_3 (by decide) hf (fun h => ⟨h, by decide⟩) (fun hf => ?_) (fun hf => ?_)
  · refine zk_iloadn hx hb dX1_kindOfLetter_10 rfl (lv_at hl 0 rfl) ?_
    refine zk_bipush hx hb dX1_kindOfLetter_11 (by decide) ?_
    refine zk_icmp_ne (tgt := 20) hx hb dX1_kindOfLetter_13 (by decide) hf (fun h => ⟨h, by decide⟩) (fun hf => ?_) (fun hf => ?_)
    · refine zk_iloadn hx hb dX1_kindOfLetter_20 rfl (lv_at hl 0 rfl) ?_
      refine zk_bipush hx hb dX1_kindOfLetter_21 (by decide) ?_
      refine zk_icmp_ne (tgt := 30) hx hb dX1_kindOfLetter_23 (by decide) hf (fun h => ⟨h, by decide⟩) (fun hf => ?_) (fun hf => ?_)
      · refine zk_iloadn hx hb dX1_kindOfLetter_30 rfl (lv_at hl 0 rfl) ?_
        refine zk_bipush hx hb dX1_kindOfLetter_31 (by decide) ?_
        refine zk_icmp_ne (tgt := 40) hx hb dX1_kindOfLetter_33 (by decide) hf (fun h => ⟨h, by decide⟩) (fun hf => ?_) (fun hf => ?_)
        · refine zk_iloadn hx hb dX1_kindOfLetter_40 rfl (lv_at hl 0 rfl) ?_
          refine zk_bipush hx hb dX1_kindOfLetter_41 (by decide) ?_
          refine zk_icmp_ne (tgt := 50) hx hb dX1_kindOfLetter_43 (by decide) hf (fun h => ⟨h, by decide⟩) (fun hf => ?_) (fun hf => ?_)
          · refine zk_iloadn hx hb dX1_kindOfLetter_50 rfl (lv_at hl 0 rfl) ?_
            refine zk_bipush hx hb dX1_kindOfLetter_51 (by decide) ?_
            refine zk_icmp_ne (tgt := 60) hx hb dX1_kindOfLetter_53 (by decide) hf (fun h => ⟨h, by decide⟩) (fun hf => ?_) (fun hf => ?_)
            · refine zk_bipush hx hb dX1_kindOfLetter_60 (by decide) ?_
              exact zk_iret hx hb hr hlk (Option.some.inj hf) (fun _ _ => trivial) hS dX1_kindOfLetter_62
            · refine zk_iconst hx hb dX1_kindOfLetter_56 ?_
              refine lv_goto (tgt := 62) hx hb dX1_kindOfLetter_57 (by decide) ?_
              exact zk_iret hx hb hr hlk (Option.some.inj hf) (fun _ _ => trivial) hS dX1_kindOfLetter_62
          · refine zk_iconst hx hb dX1_kindOfLetter_46 ?_
            refine lv_goto (tgt := 62) hx hb dX1_kindOfLetter_47 (by decide) ?_
            exact zk_iret hx hb hr hlk (Option.some.inj hf) (fun _ _ => trivial) hS dX1_kindOfLetter_62
        · refine zk_iconst hx hb dX1_kindOfLetter_36 ?_
          refine lv_goto (tgt := 62) hx hb dX1_kindOfLetter_37 (by decide) ?_
          exact zk_iret hx hb hr hlk (Option.some.inj hf) (fun _ _ => trivial) hS dX1_kindOfLetter_62
      · refine zk_iconst hx hb dX1_kindOfLetter_26 ?_
        refine lv_goto (tgt := 62) hx hb dX1_kindOfLetter_27 (by decide) ?_
        exact zk_iret hx hb hr hlk (Option.some.inj hf) (fun _ _ => trivial) hS dX1_kindOfLetter_62
    · refine zk_iconst hx hb dX1_kindOfLetter_16 ?_
      refine lv_goto (tgt := 62) hx hb dX1_kindOfLetter_17 (by decide) ?_
      exact zk_iret hx hb hr hlk (Option.some.inj hf) (fun _ _ => trivial) hS dX1_kindOfLetter_62
  · refine zk_iconst hx hb dX1_kindOfLetter_6 ?_
    refine lv_goto (tgt := 62) hx hb dX1_kindOfLetter_7 (by decide) ?_
    exact zk_iret hx hb hr hlk (Option.some.inj hf) (fun _ _ => trivial) hS dX1_kindOfLetter_62
abbrev zw_X1_twoFigures_rm : Room := { frames := 3, cells := 0, slots := 0, locals := 77 }
abbrev zw_X1_twoFigures_vs (o : Nat) (p1 : Int) : List Value := [.ref o, zk_I p1]
set_option maxHeartbeats 4000000 in
set_option maxRecDepth 100000 in
theorem zw_X1_twoFigures (l : Launch) {D : va_G} {o : Nat} {a : Nat → Nat} {dA : Nat → ClassId} {A : Nat → Prop} (hD : ∀ τ, va_D A (zm_P o a dA τ)) (p1 : Int) (σ : ZS) (r : Int) (σ' : ZS) (hf : zm_twoFigures p1 σ = some (r, σ')) : zk_MW l yX1_twoFigures (ws_ yX1_twoFigures cX1_twoFigures 5 (Option.some Jvm.ClassFile.FieldType.int)) zw_X1_twoFigures_rm D zk_cl (zk_ty dA) A (zw_X1_twoFigures_vs o p1) (zm_P o a dA σ) (zm_P o a dA σ') (some (zk_I r)) := by
  refine zk_startW (by decide +kernel) (Nat.le_of_ble_eq_true rfl) (fun p e s m below meth c H locs ls hx hb hr hlk hml hown hts hKX hP hS hl => ?_)
  have hl : lv_has ls 5 [(0, .ref o), (1, zk_I p1)] := hl
  have hK := hKX.1
  have hown : s.vm.findClass RX1 = some m.cls := hown
  have hf : zm_twoFigures p1 σ = some (r, σ') := hf
  have hJ25 : ∀ (x1 x2 x3 y0 : Int) (s0 : ZS) (H : Heap) (locs : List Loc) (ls : Array Slot), zm_twoFigures_j25 x1 x2 x3 y0 s0 = some (r, σ') → lv_has ls 5 [(0, .ref o), (1, zk_I x1), (2, zk_I x2), (3, zk_I x3)] → va_P D zk_cl (zm_P o a dA s0) H → va_S A s.heap H locs → W p l e zw_X1_twoFigures_rm s m (zw_X1_twoFigures_vs o p1).toArray below meth c H locs 0 0 (MQ below (zk_Q (some (zk_I r)) (fun t => va_P D zk_cl (zm_P o a dA σ') t.heap) A) (zw_X1_twoFigures_vs o p1).toArray s 0 0 A) (F0 m 25 ls [zk_I y0]) := by
    intro x1 x2 x3 y0 s0 H locs ls hf hl hP hS
    refine lv_istore (lv' := [(4, zk_I y0), (0, .ref o), (1, zk_I x1), (2, zk_I x2), (3, zk_I x3)]) hx hb dX1_twoFigures_25 hl (by decide) rfl (fun ls hl => ?_)
    refine zk_iload hx hb dX1_twoFigures_27 (lv_at hl 0 rfl) ?_
    refine zk_bipush hx hb dX1_twoFigures_29 (by decide) ?_
    refine zk_icmp_ne (tgt := 37) hx hb dX1_twoFigures_31 (by decide) hf (fun h => ⟨h, by decide⟩) (fun hf => ?_) (fun hf => ?_)
    · refine zk_bipush hx hb dX1_twoFigures_37 (by decide) ?_
      refine zk_iloadn hx hb dX1_twoFigures_39 rfl (lv_at hl 4 rfl) ?_
      refine zk_imul hx hb dX1_twoFigures_40 ?_
      refine zk_iload hx hb dX1_twoFigures_41 (lv_at hl 0 rfl) ?_
      refine zk_iadd hx hb dX1_twoFigures_43 ?_
      refine zk_iloadn hx hb dX1_twoFigures_44 rfl (lv_at hl 2 rfl) ?_
      refine zk_icmp_le (tgt := 56) hx hb dX1_twoFigures_45 (by decide) hf (fun h => h) (fun hf => ?_) (fun hf => ?_)
      · refine zk_bipush hx hb dX1_twoFigures_56 (by decide) ?_
        refine zk_iloadn hx hb dX1_twoFigures_58 rfl (lv_at hl 4 rfl) ?_
        refine zk_imul hx hb dX1_twoFigures_59 ?_
        refine zk_iload hx hb dX1_twoFigures_60 (lv_at hl 0 rfl) ?_
        refine zk_iadd hx hb dX1_twoFigures_62 ?_
        exact zk_iret hx hb hr hlk (zk_p1 hf) (zk_pB hf hP) hS dX1_twoFigures_63
      · refine lv_aload_n hx hb dX1_twoFigures_48 rfl (lv_at hl 1 rfl) ?_
        refine zk_iloadn hx hb dX1_twoFigures_49 rfl (lv_at hl 3 rfl) ?_
        refine zm_rput hx hb hts hown hK hP hD hS 13 (by decide) q962 rfl rfl rfl (zm_s13 _ _) hf dX1_twoFigures_50 (fun s6 H locs hf hP hS => ?_)
        refine zk_bipush hx hb dX1_twoFigures_53 (by decide) ?_
        exact zk_iret hx hb hr hlk (zk_p1 hf) (zk_pB hf hP) hS dX1_twoFigures_55
    · refine zk_bipush hx hb dX1_twoFigures_34 (by decide) ?_
      exact zk_iret hx hb hr hlk (zk_p1 hf) (zk_pB hf hP) hS dX1_twoFigures_36
  refine lv_aload_n hx hb dX1_twoFigures_0 rfl (lv_at hl 0 rfl) ?_
  refine zm_rget hx hb hts hown hK hP 13 (by decide) q962 rfl dX1_twoFigures_1 ?_
  refine zk_istorenN (lv' := fun x2_1 => [(2, zk_I x2_1), (0, .ref o), (1, zk_I p1)]) hx hb dX1_twoFigures_4 rfl hl (by decide) (fun _ => rfl) hf (fun x2_1 hf ls hl => ?_)
  refine lv_aload_n hx hb dX1_twoFigures_5 rfl (lv_at hl 1 rfl) ?_
  obtain ⟨v2, s3, hq, hf⟩ := zk_b2s hf
  refine zk_callVW (As := []) (rest := []) ⟨hx, hb, hml, hown, hts⟩ (zw_X1_figure l hD  σ _ _ hq) (cwV 0 hts (lw_V q1102 q1104 qs49 q88 q1105) rfl rfl rfl (by decide +kernel) ⟨Nat.le_of_ble_eq_true rfl, Nat.le_of_ble_eq_true rfl⟩) hKX hP hS (va_recv hK hP (ci := 1) (q0 := 0) rfl rfl) rfl hl.1 rfl (Nat.le_of_ble_eq_true rfl) dX1_twoFigures_6 ⟨Nat.le_of_ble_eq_true rfl, Nat.le_of_ble_eq_true rfl⟩ (fun H locs hP hS => ?_)
  refine lv_istore_n (lv' := [(3, zk_I v2), (2, zk_I x2_1), (0, .ref o), (1, zk_I p1)]) hx hb dX1_twoFigures_9 rfl hl (by decide) rfl (fun ls hl => ?_)
  refine zk_iloadn hx hb dX1_twoFigures_10 rfl (lv_at hl 0 rfl) ?_
  refine zk_bipush hx hb dX1_twoFigures_11 (by decide) ?_
  refine zk_icmp_ne (tgt := 21) hx hb dX1_twoFigures_13 (by decide) hf (fun h => ⟨h, by decide⟩) (fun hf => ?_) (fun hf => ?_)
  · refine lv_aload_n hx hb dX1_twoFigures_21 rfl (lv_at hl 2 rfl) ?_
    obtain ⟨v4, s5, hq, hf⟩ := zk_b2s hf
    refine zk_callVW (As := []) (rest := []) ⟨hx, hb, hml, hown, hts⟩ (zw_X1_figure l hD  s3 _ _ hq) (cwV 0 hts (lw_V q1102 q1104 qs49 q88 q1105) rfl rfl rfl (by decide +kernel) ⟨Nat.le_of_ble_eq_true rfl, Nat.le_of_ble_eq_true rfl⟩) hKX hP hS (va_recv hK hP (ci := 1) (q0 := 0) rfl rfl) rfl hl.1 rfl (Nat.le_of_ble_eq_true rfl) dX1_twoFigures_22 ⟨Nat.le_of_ble_eq_true rfl, Nat.le_of_ble_eq_true rfl⟩ (fun H locs hP hS => ?_)
    exact hJ25 _ _ _ _ _ H locs ls hf (lv_sub hl [2, 3, 1, 0] rfl) hP hS
  · refine zk_bipush hx hb dX1_twoFigures_16 (by decide) ?_
    refine lv_goto (tgt := 25) hx hb dX1_twoFigures_18 (by decide) ?_
    exact hJ25 _ _ _ _ _ H locs ls hf (lv_sub hl [2, 3, 1, 0] rfl) hP hS
abbrev zw_X1_readsOne_rm : Room := { frames := 4, cells := 0, slots := 0, locals := 101 }
abbrev zw_X1_readsOne_vs (o : Nat) : List Value := [.ref o]
set_option maxHeartbeats 4000000 in
set_option maxRecDepth 100000 in
theorem zw_X1_readsOne (l : Launch) {D : va_G} {o : Nat} {a : Nat → Nat} {dA : Nat → ClassId} {A : Nat → Prop} (hD : ∀ τ, va_D A (zm_P o a dA τ)) (σ : ZS) (r : Int) (σ' : ZS) (hf : zm_readsOne  σ = some (r, σ')) : zk_MW l yX1_readsOne (ws_ yX1_readsOne cX1_readsOne 5 (Option.some Jvm.ClassFile.FieldType.boolean)) zw_X1_readsOne_rm D zk_cl (zk_ty dA) A (zw_X1_readsOne_vs o) (zm_P o a dA σ) (zm_P o a dA σ') (some (zk_I r)) := by
  refine zk_startW (by decide +kernel) (Nat.le_of_ble_eq_true rfl) (fun p e s m below meth c H locs ls hx hb hr hlk hml hown hts hKX hP hS hl => ?_)
  have hl : lv_has ls 5 [(0, .ref o)] := hl
  have hK := hKX.1
  have hown : s.vm.findClass RX1 = some m.cls := hown
  have hf : zm_readsOne  σ = some (r, σ') := hf
  have hJ64 : ∀ (x1 x2 x3 y0 : Int) (s0 : ZS) (H : Heap) (locs : List Loc) (ls : Array Slot), zm_readsOne_j64 x1 x2 x3 y0 s0 = some (r, σ') → lv_has ls 5 [(0, .ref o), (1, zk_I x1), (2, zk_I x2), (3, zk_I x3)] → va_P D zk_cl (zm_P o a dA s0) H → va_S A s.heap H locs → W p l e zw_X1_readsOne_rm s m (zw_X1_readsOne_vs o).toArray below meth c H locs 0 0 (MQ below (zk_Q (some (zk_I r)) (fun t => va_P D zk_cl (zm_P o a dA σ') t.heap) A) (zw_X1_readsOne_vs o).toArray s 0 0 A) (F0 m 64 ls [zk_I y0]) := by
    intro x1 x2 x3 y0 s0 H locs ls hf hl hP hS
    refine lv_istore (lv' := [(4, zk_I y0), (0, .ref o), (1, zk_I x1), (2, zk_I x2), (3, zk_I x3)]) hx hb dX1_readsOne_64 hl (by decide) rfl (fun ls hl => ?_)
    refine zk_iload hx hb dX1_readsOne_66 (lv_at hl 0 rfl) ?_
    refine zk_bipush hx hb dX1_readsOne_68 (by decide) ?_
    refine zk_icmp_ne (tgt := 75) hx hb dX1_readsOne_70 (by decide) hf (fun h => ⟨h, by decide⟩) (fun hf => ?_) (fun hf => ?_)
    · refine lv_aload_n hx hb dX1_readsOne_75 rfl (lv_at hl 1 rfl) ?_
      refine zm_rget hx hb hts hown hK hP 16 (by decide) q965 rfl dX1_readsOne_76 ?_
      refine zk_iloadn hx hb dX1_readsOne_79 rfl (lv_at hl 2 rfl) ?_
      refine zk_iloadn hx hb dX1_readsOne_80 rfl (lv_at hl 3 rfl) ?_
      refine zk_iastN hx hb hK hP hD hS 8 0 16 rfl rfl (N := 18) ⟨by decide, by decide⟩ (zm_t16 _ _ _) hf dX1_readsOne_81 (fun s9 H locs hf hP hS => ?_)
      refine lv_aload_n hx hb dX1_readsOne_82 rfl (lv_at hl 1 rfl) ?_
      refine zm_rget hx hb hts hown hK hP 16 (by decide) q965 rfl dX1_readsOne_83 ?_
      refine zk_iloadn hx hb dX1_readsOne_86 rfl (lv_at hl 2 rfl) ?_
      refine zk_iconst hx hb dX1_readsOne_87 ?_
      refine zk_iadd hx hb dX1_readsOne_88 ?_
      refine zk_iloadn hx hb dX1_readsOne_89 rfl (lv_at hl 4 rfl) ?_
      refine zk_iastN hx hb hK hP hD hS 8 0 16 rfl rfl (N := 18) ⟨by decide, by decide⟩ (zm_t16 _ _ _) hf dX1_readsOne_90 (fun s10 H locs hf hP hS => ?_)
      refine lv_aload_n hx hb dX1_readsOne_91 rfl (lv_at hl 1 rfl) ?_
      refine zm_rget hx hb hts hown hK hP 16 (by decide) q965 rfl dX1_readsOne_92 ?_
      refine zk_iloadn hx hb dX1_readsOne_95 rfl (lv_at hl 2 rfl) ?_
      refine zk_iconst hx hb dX1_readsOne_96 ?_
      refine zk_iadd hx hb dX1_readsOne_97 ?_
      refine zk_iload hx hb dX1_readsOne_98 (lv_at hl 0 rfl) ?_
      refine zk_iastN hx hb hK hP hD hS 8 0 16 rfl rfl (N := 18) ⟨by decide, by decide⟩ (zm_t16 _ _ _) hf dX1_readsOne_100 (fun s11 H locs hf hP hS => ?_)
      refine lv_aload_n hx hb dX1_readsOne_101 rfl (lv_at hl 1 rfl) ?_
      refine lv_dup hx hb dX1_readsOne_102 rfl ?_
      refine zm_rget hx hb hts hown hK hP 17 (by decide) q966 rfl dX1_readsOne_103 ?_
      refine zk_iconst hx hb dX1_readsOne_106 ?_
      refine zk_iadd hx hb dX1_readsOne_107 ?_
      refine zm_rput hx hb hts hown hK hP hD hS 17 (by decide) q966 rfl rfl rfl (zm_s17 _ _) hf dX1_readsOne_108 (fun s12 H locs hf hP hS => ?_)
      refine zk_iconst hx hb dX1_readsOne_111 ?_
      exact zk_zret hx hb hr hlk (Or.inr rfl) (zk_p1 hf) (zk_pB hf hP) hS dX1_readsOne_112
    · refine zk_iconst hx hb dX1_readsOne_73 ?_
      exact zk_zret hx hb hr hlk (Or.inl rfl) (zk_p1 hf) (zk_pB hf hP) hS dX1_readsOne_74
  refine zk_iconst hx hb dX1_readsOne_0 ?_
  refine lv_aload_n hx hb dX1_readsOne_1 rfl (lv_at hl 0 rfl) ?_
  refine zm_rget hx hb hts hown hK hP 17 (by decide) q966 rfl dX1_readsOne_2 ?_
  refine zk_imul hx hb dX1_readsOne_5 ?_
  refine zk_istorenN (lv' := fun x1_1 => [(1, zk_I x1_1), (0, .ref o)]) hx hb dX1_readsOne_6 rfl hl (by decide) (fun _ => rfl) hf (fun x1_1 hf ls hl => ?_)
  refine lv_aload_n hx hb dX1_readsOne_7 rfl (lv_at hl 1 rfl) ?_
  obtain ⟨v2, hq, hf⟩ := zk_bs hf
  refine zk_callVR (As := []) (rest := []) ⟨hx, hb, hml, hown, hts⟩ (zw_X1_here l  σ _ hq) (cwV 0 hts (lw_V q1098 q1100 qs48 q88 q1101) rfl rfl rfl (by decide +kernel) ⟨Nat.le_of_ble_eq_true rfl, Nat.le_of_ble_eq_true rfl⟩) hKX hP hS (va_recv hK hP (ci := 1) (q0 := 0) rfl rfl) rfl hl.1 rfl (Nat.le_of_ble_eq_true rfl) dX1_readsOne_8 ⟨Nat.le_of_ble_eq_true rfl, Nat.le_of_ble_eq_true rfl⟩ (fun H locs hP hS => ?_)
  obtain ⟨v3, hq, hf⟩ := zk_bs hf
  refine zk_callSS (As := [zk_I v2]) (rest := []) ⟨hx, hb, hml, hown, hts⟩ (zw_X1_kindOfLetter l v2 _ hq) (va_cwS 1 hts (lw_S q1112 q1113 q88 q1114) rfl rfl rfl (by decide +kernel) ⟨Nat.le_of_ble_eq_true rfl, Nat.le_of_ble_eq_true rfl⟩) hP hS rfl hl.1 rfl (Nat.le_of_ble_eq_true rfl) dX1_readsOne_11 ⟨Nat.le_of_ble_eq_true rfl, Nat.le_of_ble_eq_true rfl⟩ (fun H locs hP hS => ?_)
  refine lv_istore_n (lv' := [(2, zk_I v3), (1, zk_I x1_1), (0, .ref o)]) hx hb dX1_readsOne_14 rfl hl (by decide) rfl (fun ls hl => ?_)
  refine zk_iloadn hx hb dX1_readsOne_15 rfl (lv_at hl 0 rfl) ?_
  refine zk_bipush hx hb dX1_readsOne_16 (by decide) ?_
  refine zk_icmp_eq (tgt := 30) hx hb dX1_readsOne_18 (by decide) hf (fun h => ⟨h, by decide⟩) (fun hf => ?_) (fun hf => ?_)
  · refine zk_iconst hx hb dX1_readsOne_30 ?_
    exact zk_zret hx hb hr hlk (Or.inl rfl) (zk_p1 hf) (zk_pB hf hP) hS dX1_readsOne_31
  · refine lv_aload_n hx hb dX1_readsOne_21 rfl (lv_at hl 2 rfl) ?_
    refine zm_rget hx hb hts hown hK hP 17 (by decide) q966 rfl dX1_readsOne_22 ?_
    refine zk_bipush hx hb dX1_readsOne_25 (by decide) ?_
    refine zk_icmp_ne (tgt := 32) hx hb dX1_readsOne_27 (by decide) hf (fun h => ⟨h, by decide⟩) (fun hf => ?_) (fun hf => ?_)
    · refine lv_aload_n hx hb dX1_readsOne_32 rfl (lv_at hl 2 rfl) ?_
      refine lv_dup hx hb dX1_readsOne_33 rfl ?_
      refine zm_rget hx hb hts hown hK hP 13 (by decide) q962 rfl dX1_readsOne_34 ?_
      refine zk_iconst hx hb dX1_readsOne_37 ?_
      refine zk_iadd hx hb dX1_readsOne_38 ?_
      refine zm_rput hx hb hts hown hK hP hD hS 13 (by decide) q962 rfl rfl rfl (zm_s13 _ _) hf dX1_readsOne_39 (fun s4 H locs hf hP hS => ?_)
      refine lv_aload_n hx hb dX1_readsOne_42 rfl (lv_at hl 2 rfl) ?_
      obtain ⟨v5, s6, hq, hf⟩ := zk_b2s hf
      refine zk_callVW (As := []) (rest := []) ⟨hx, hb, hml, hown, hts⟩ (zw_X1_figure l hD  s4 _ _ hq) (cwV 0 hts (lw_V q1102 q1104 qs49 q88 q1105) rfl rfl rfl (by decide +kernel) ⟨Nat.le_of_ble_eq_true rfl, Nat.le_of_ble_eq_true rfl⟩) hKX hP hS (va_recv hK hP (ci := 1) (q0 := 0) rfl rfl) rfl hl.1 rfl (Nat.le_of_ble_eq_true rfl) dX1_readsOne_43 ⟨Nat.le_of_ble_eq_true rfl, Nat.le_of_ble_eq_true rfl⟩ (fun H locs hP hS => ?_)
      refine lv_istore_n (lv' := [(3, zk_I v5), (2, zk_I v3), (1, zk_I x1_1), (0, .ref o)]) hx hb dX1_readsOne_46 rfl hl (by decide) rfl (fun ls hl => ?_)
      refine zk_iloadn hx hb dX1_readsOne_47 rfl (lv_at hl 0 rfl) ?_
      refine zk_bipush hx hb dX1_readsOne_48 (by decide) ?_
      refine zk_icmp_ne (tgt := 58) hx hb dX1_readsOne_50 (by decide) hf (fun h => ⟨h, by decide⟩) (fun hf => ?_) (fun hf => ?_)
      · refine lv_aload_n hx hb dX1_readsOne_58 rfl (lv_at hl 3 rfl) ?_
        refine zk_bipush hx hb dX1_readsOne_59 (by decide) ?_
        obtain ⟨v7, s8, hq, hf⟩ := zk_b2s hf
        refine zk_callVW (As := [zk_I 20]) (rest := []) ⟨hx, hb, hml, hown, hts⟩ (zw_X1_twoFigures l hD 20 s6 _ _ hq) (cwV 1 hts (lw_V q1115 q1117 qs51 q88 q1118) rfl rfl rfl (by decide +kernel) ⟨Nat.le_of_ble_eq_true rfl, Nat.le_of_ble_eq_true rfl⟩) hKX hP hS (va_recv hK hP (ci := 1) (q0 := 0) rfl rfl) rfl hl.1 rfl (Nat.le_of_ble_eq_true rfl) dX1_readsOne_61 ⟨Nat.le_of_ble_eq_true rfl, Nat.le_of_ble_eq_true rfl⟩ (fun H locs hP hS => ?_)
        exact hJ64 _ _ _ _ _ H locs ls hf (lv_sub hl [3, 2, 1, 0] rfl) hP hS
      · refine zk_bipush hx hb dX1_readsOne_53 (by decide) ?_
        refine lv_goto (tgt := 64) hx hb dX1_readsOne_55 (by decide) ?_
        exact hJ64 _ _ _ _ _ H locs ls hf (lv_sub hl [3, 2, 1, 0] rfl) hP hS
    · refine zk_iconst hx hb dX1_readsOne_30 ?_
      exact zk_zret hx hb hr hlk (Or.inl rfl) (zk_p1 hf) (zk_pB hf hP) hS dX1_readsOne_31
abbrev zw_X1_faultOf_rm : Room := { frames := 5, cells := 0, slots := 0, locals := 125 }
abbrev zw_X1_faultOf_vs (o : Nat) (p1 : Int) : List Value := [.ref o, zk_I p1]
set_option maxHeartbeats 4000000 in
set_option maxRecDepth 100000 in
theorem zw_X1_faultOf (l : Launch) {D : va_G} {o : Nat} {a : Nat → Nat} {dA : Nat → ClassId} {A : Nat → Prop} (hD : ∀ τ, va_D A (zm_P o a dA τ)) (N : Nat) (p1 : Int) (σ : ZS) (r : Int) (σ' : ZS) (hf : zm_faultOf N p1 σ = some (r, σ')) : zk_MW l yX1_faultOf (ws_ yX1_faultOf cX1_faultOf 3 (Option.some Jvm.ClassFile.FieldType.int)) zw_X1_faultOf_rm D zk_cl (zk_ty dA) A (zw_X1_faultOf_vs o p1) (zm_P o a dA σ) (zm_P o a dA σ') (some (zk_I r)) := by
  refine zk_startW (by decide +kernel) (Nat.le_of_ble_eq_true rfl) (fun p e s m below meth c H locs ls hx hb hr hlk hml hown hts hKX hP hS hl => ?_)
  have hl : lv_has ls 3 [(0, .ref o), (1, zk_I p1)] := hl
  have hK := hKX.1
  have hown : s.vm.findClass RX1 = some m.cls := hown
  have hf : zm_faultOf N p1 σ = some (r, σ') := hf
  have hJ88 : ∀ (s0 : ZS) (H : Heap) (locs : List Loc) (ls : Array Slot), zm_faultOf_j88 N  s0 = some (r, σ') → lv_has ls 3 [(0, .ref o)] → va_P D zk_cl (zm_P o a dA s0) H → va_S A s.heap H locs → W p l e zw_X1_faultOf_rm s m (zw_X1_faultOf_vs o p1).toArray below meth c H locs 0 0 (MQ below (zk_Q (some (zk_I r)) (fun t => va_P D zk_cl (zm_P o a dA σ') t.heap) A) (zw_X1_faultOf_vs o p1).toArray s 0 0 A) (F0 m 88 ls []) := by
    intro s0 H locs ls hf hl hP hS
    refine lv_aload_n hx hb dX1_faultOf_88 rfl (lv_at hl 0 rfl) ?_
    refine zm_rget hx hb hts hown hK hP 13 (by decide) q962 rfl dX1_faultOf_89 ?_
    exact zk_iret hx hb hr hlk (zk_p1 hf) (zk_pB hf hP) hS dX1_faultOf_92
  have hJ72 : ∀ (x2 : Int) (s0 : ZS) (H : Heap) (locs : List Loc) (ls : Array Slot), zm_faultOf_j72 N x2 s0 = some (r, σ') → lv_has ls 3 [(0, .ref o), (2, zk_I x2)] → va_P D zk_cl (zm_P o a dA s0) H → va_S A s.heap H locs → W p l e zw_X1_faultOf_rm s m (zw_X1_faultOf_vs o p1).toArray below meth c H locs 0 0 (MQ below (zk_Q (some (zk_I r)) (fun t => va_P D zk_cl (zm_P o a dA σ') t.heap) A) (zw_X1_faultOf_vs o p1).toArray s 0 0 A) (F0 m 72 ls []) := by
    intro x2 s0 H locs ls hf hl hP hS
    refine zk_iloadn hx hb dX1_faultOf_72 rfl (lv_at hl 1 rfl) ?_
    refine zk_if_eq (tgt := 88) hx hb dX1_faultOf_73 (by decide) hf (fun h => h) (fun hf => ?_) (fun hf => ?_)
    · exact hJ88 _ H locs ls hf (lv_sub hl [0] rfl) hP hS
    · refine lv_aload_n hx hb dX1_faultOf_76 rfl (lv_at hl 0 rfl) ?_
      refine zm_rget hx hb hts hown hK hP 17 (by decide) q966 rfl dX1_faultOf_77 ?_
      refine zk_if_le (tgt := 88) hx hb dX1_faultOf_80 (by decide) hf (fun h => h) (fun hf => ?_) (fun hf => ?_)
      · exact hJ88 _ H locs ls hf (lv_sub hl [0] rfl) hP hS
      · refine zk_bipush hx hb dX1_faultOf_83 (by decide) ?_
        refine lv_goto (tgt := 92) hx hb dX1_faultOf_85 (by decide) ?_
        exact zk_iret hx hb hr hlk (zk_p1 hf) (zk_pB hf hP) hS dX1_faultOf_92
  have hL41 : ∀ (n : Nat) (x2 : Int) (s0 : ZS) (H : Heap) (locs : List Loc) (ls : Array Slot), zk_b (zk_loop (α := Int × ZS) (β := Int × ZS) n (fun a => zm_faultOf_b41 N a.1 a.2) (x2, s0)) (fun e => zm_faultOf_j72 N e.1 e.2) = some (r, σ') → lv_has ls 3 [(0, .ref o), (2, zk_I x2)] → va_P D zk_cl (zm_P o a dA s0) H → va_S A s.heap H locs → W p l e zw_X1_faultOf_rm s m (zw_X1_faultOf_vs o p1).toArray below meth c H locs 0 0 (MQ below (zk_Q (some (zk_I r)) (fun t => va_P D zk_cl (zm_P o a dA σ') t.heap) A) (zw_X1_faultOf_vs o p1).toArray s 0 0 A) (F0 m 41 ls []) := by
    intro n
    induction n with
    | zero => intro x2 s0 H locs ls hf; exact (zk_l0 hf).elim
    | succ n ih41 =>
      intro x2 s0 H locs ls hf hl hP hS
      obtain ⟨c41, hf, hc41⟩ := zk_ls hf
      refine zk_iloadn hx hb dX1_faultOf_41 rfl (lv_at hl 1 rfl) ?_
      refine zk_if_eq (tgt := 72) hx hb dX1_faultOf_42 (by decide) hf (fun h => h) (fun hf => ?_) (fun hf => ?_)
      · obtain rfl := zk_so hf
        exact hJ72 _ _ H locs ls hc41 (lv_sub hl [0, 1] rfl) hP hS
      · refine lv_aload_n hx hb dX1_faultOf_45 rfl (lv_at hl 0 rfl) ?_
        refine zm_rget hx hb hts hown hK hP 13 (by decide) q962 rfl dX1_faultOf_46 ?_
        refine lv_aload_n hx hb dX1_faultOf_49 rfl (lv_at hl 0 rfl) ?_
        refine zm_rget hx hb hts hown hK hP 14 (by decide) q963 rfl dX1_faultOf_50 ?_
        refine zk_icmp_ge (tgt := 72) hx hb dX1_faultOf_53 (by decide) hf (fun h => h) (fun hf => ?_) (fun hf => ?_)
        · obtain rfl := zk_so hf
          exact hJ72 _ _ H locs ls hc41 (lv_sub hl [0, 1] rfl) hP hS
        · refine lv_aload_n hx hb dX1_faultOf_56 rfl (lv_at hl 0 rfl) ?_
          obtain ⟨v9, s10, hq, hf⟩ := zk_b2s hf
          refine zk_callVW (As := []) (rest := []) ⟨hx, hb, hml, hown, hts⟩ (zw_X1_readsOne l hD  s0 _ _ hq) (cwV 0 hts (lw_V q1108 q1110 qs50 q88 q1111) rfl rfl rfl (by decide +kernel) ⟨Nat.le_of_ble_eq_true rfl, Nat.le_of_ble_eq_true rfl⟩) hKX hP hS (va_recv hK hP (ci := 1) (q0 := 0) rfl rfl) rfl hl.1 rfl (Nat.le_of_ble_eq_true rfl) dX1_faultOf_57 ⟨Nat.le_of_ble_eq_true rfl, Nat.le_of_ble_eq_true rfl⟩ (fun H locs hP hS => ?_)
          refine lv_istore_n (lv' := [(2, zk_I v9), (0, .ref o)]) hx hb dX1_faultOf_60 rfl hl (by decide) rfl (fun ls hl => ?_)
          refine zk_iloadn hx hb dX1_faultOf_61 rfl (lv_at hl 0 rfl) ?_
          refine zk_if_eq (tgt := 41) hx hb dX1_faultOf_62 (by decide) hf (fun h => h) (fun hf => ?_) (fun hf => ?_)
          · obtain rfl := zk_so hf
            exact ih41 _ _ H locs ls hc41 (lv_sub hl [1, 0] rfl) hP hS
          · refine lv_aload_n hx hb dX1_faultOf_65 rfl (lv_at hl 1 rfl) ?_
            obtain ⟨v11, s12, hq, hf⟩ := zk_b2s hf
            refine zk_callVW (As := []) (rest := []) ⟨hx, hb, hml, hown, hts⟩ (zw_X1_skip l hD N  s10 _ _ hq) (cwV 0 hts (lw_V q1094 q1096 qs47 q88 q1097) rfl rfl rfl (by decide +kernel) ⟨Nat.le_of_ble_eq_true rfl, Nat.le_of_ble_eq_true rfl⟩) hKX hP hS (va_recv hK hP (ci := 1) (q0 := 0) rfl rfl) rfl hl.1 rfl (Nat.le_of_ble_eq_true rfl) dX1_faultOf_66 ⟨Nat.le_of_ble_eq_true rfl, Nat.le_of_ble_eq_true rfl⟩ (fun H locs hP hS => ?_)
            refine lv_goto (tgt := 41) hx hb dX1_faultOf_69 (by decide) ?_
            obtain rfl := zk_so hf
            exact ih41 _ _ H locs ls hc41 (lv_sub hl [1, 0] rfl) hP hS
  refine lv_aload_n hx hb dX1_faultOf_0 rfl (lv_at hl 0 rfl) ?_
  refine zk_bipush hx hb dX1_faultOf_1 (by decide) ?_
  refine zk_iloadn hx hb dX1_faultOf_3 rfl (lv_at hl 1 rfl) ?_
  refine zk_imul hx hb dX1_faultOf_4 ?_
  refine zm_rput hx hb hts hown hK hP hD hS 12 (by decide) q961 rfl rfl rfl (zm_s12 _ _) hf dX1_faultOf_5 (fun s1 H locs hf hP hS => ?_)
  refine lv_aload_n hx hb dX1_faultOf_8 rfl (lv_at hl 0 rfl) ?_
  refine zk_iconst hx hb dX1_faultOf_9 ?_
  refine zm_rput hx hb hts hown hK hP hD hS 13 (by decide) q962 rfl rfl rfl (zm_s13 _ _) hf dX1_faultOf_10 (fun s2 H locs hf hP hS => ?_)
  refine lv_aload_n hx hb dX1_faultOf_13 rfl (lv_at hl 0 rfl) ?_
  refine lv_aload_n hx hb dX1_faultOf_14 rfl (lv_at hl 0 rfl) ?_
  refine zm_rget hx hb hts hown hK hP 5 (by decide) q954 rfl dX1_faultOf_15 ?_
  refine zk_iloadn hx hb dX1_faultOf_18 rfl (lv_at hl 1 rfl) ?_
  refine zk_iald hx hb hK hP 5 0 rfl rfl (N := 4) ⟨by decide, by decide⟩ hf dX1_faultOf_19 (fun hf => ?_)
  refine zm_rput hx hb hts hown hK hP hD hS 14 (by decide) q963 rfl rfl rfl (zm_s14 _ _) hf dX1_faultOf_20 (fun s3 H locs hf hP hS => ?_)
  refine lv_aload_n hx hb dX1_faultOf_23 rfl (lv_at hl 0 rfl) ?_
  refine zk_iconst hx hb dX1_faultOf_24 ?_
  refine zm_rput hx hb hts hown hK hP hD hS 17 (by decide) q966 rfl rfl rfl (zm_s17 _ _) hf dX1_faultOf_25 (fun s4 H locs hf hP hS => ?_)
  refine lv_aload_n hx hb dX1_faultOf_28 rfl (lv_at hl 0 rfl) ?_
  obtain ⟨v5, s6, hq, hf⟩ := zk_b2s hf
  refine zk_callVW (As := []) (rest := []) ⟨hx, hb, hml, hown, hts⟩ (zw_X1_readsFord l hD N  s4 _ _ hq) (cwV 0 hts (lw_V q1090 q1092 qs46 q88 q1093) rfl rfl rfl (by decide +kernel) ⟨Nat.le_of_ble_eq_true rfl, Nat.le_of_ble_eq_true rfl⟩) hKX hP hS (va_recv hK hP (ci := 1) (q0 := 0) rfl rfl) rfl hl.1 rfl (Nat.le_of_ble_eq_true rfl) dX1_faultOf_29 ⟨Nat.le_of_ble_eq_true rfl, Nat.le_of_ble_eq_true rfl⟩ (fun H locs hP hS => ?_)
  refine lv_istore_n (lv' := [(2, zk_I v5), (0, .ref o), (1, zk_I p1)]) hx hb dX1_faultOf_32 rfl hl (by decide) rfl (fun ls hl => ?_)
  refine zk_iloadn hx hb dX1_faultOf_33 rfl (lv_at hl 0 rfl) ?_
  refine zk_if_eq (tgt := 41) hx hb dX1_faultOf_34 (by decide) hf (fun h => h) (fun hf => ?_) (fun hf => ?_)
  · exact hL41 N _ _ H locs ls hf (lv_sub hl [1, 0] rfl) hP hS
  · refine lv_aload_n hx hb dX1_faultOf_37 rfl (lv_at hl 1 rfl) ?_
    obtain ⟨v7, s8, hq, hf⟩ := zk_b2s hf
    refine zk_callVW (As := []) (rest := []) ⟨hx, hb, hml, hown, hts⟩ (zw_X1_skip l hD N  s6 _ _ hq) (cwV 0 hts (lw_V q1094 q1096 qs47 q88 q1097) rfl rfl rfl (by decide +kernel) ⟨Nat.le_of_ble_eq_true rfl, Nat.le_of_ble_eq_true rfl⟩) hKX hP hS (va_recv hK hP (ci := 1) (q0 := 0) rfl rfl) rfl hl.1 rfl (Nat.le_of_ble_eq_true rfl) dX1_faultOf_38 ⟨Nat.le_of_ble_eq_true rfl, Nat.le_of_ble_eq_true rfl⟩ (fun H locs hP hS => ?_)
    exact hL41 N _ _ H locs ls hf (lv_sub hl [1, 0] rfl) hP hS
abbrev zw_X1_fault_rm : Room := { frames := 6, cells := 0, slots := 0, locals := 147 }
abbrev zw_X1_fault_vs (o : Nat) (p1 : Int) : List Value := [.ref o, zk_I p1]
set_option maxHeartbeats 4000000 in
set_option maxRecDepth 100000 in
theorem zw_X1_fault (l : Launch) {D : va_G} {o : Nat} {a : Nat → Nat} {dA : Nat → ClassId} {A : Nat → Prop} (hD : ∀ τ, va_D A (zm_P o a dA τ)) (N : Nat) (p1 : Int) (σ : ZS) (r : Int) (σ' : ZS) (hf : zm_fault N p1 σ = some (r, σ')) : zk_MW l yX1_fault (ws_ yX1_fault cX1_fault 2 (Option.some Jvm.ClassFile.FieldType.int)) zw_X1_fault_rm D zk_cl (zk_ty dA) A (zw_X1_fault_vs o p1) (zm_P o a dA σ) (zm_P o a dA σ') (some (zk_I r)) := by
  refine zk_startW (by decide +kernel) (Nat.le_of_ble_eq_true rfl) (fun p e s m below meth c H locs ls hx hb hr hlk hml hown hts hKX hP hS hl => ?_)
  have hl : lv_has ls 2 [(0, .ref o), (1, zk_I p1)] := hl
  have hK := hKX.1
  have hown : s.vm.findClass RX1 = some m.cls := hown
  have hf : zm_fault N p1 σ = some (r, σ') := hf
  refine zk_iloadn hx hb dX1_fault_0 rfl (lv_at hl 1 rfl) ?_
  obtain ⟨v1, hq, hf⟩ := zk_bs hf
  refine zk_callSS (As := [zk_I p1]) (rest := []) ⟨hx, hb, hml, hown, hts⟩ (zw_X1_isText l p1 _ hq) (va_cwS 1 hts (lw_S q1074 q1075 q88 q1076) rfl rfl rfl (by decide +kernel) ⟨Nat.le_of_ble_eq_true rfl, Nat.le_of_ble_eq_true rfl⟩) hP hS rfl hl.1 rfl (Nat.le_of_ble_eq_true rfl) dX1_fault_1 ⟨Nat.le_of_ble_eq_true rfl, Nat.le_of_ble_eq_true rfl⟩ (fun H locs hP hS => ?_)
  refine zk_if_ne (tgt := 9) hx hb dX1_fault_4 (by decide) hf (fun h => h) (fun hf => ?_) (fun hf => ?_)
  · refine lv_aload_n hx hb dX1_fault_9 rfl (lv_at hl 0 rfl) ?_
    refine zm_rget hx hb hts hown hK hP 5 (by decide) q954 rfl dX1_fault_10 ?_
    refine zk_iloadn hx hb dX1_fault_13 rfl (lv_at hl 1 rfl) ?_
    refine zk_iald hx hb hK hP 5 0 rfl rfl (N := 4) ⟨by decide, by decide⟩ hf dX1_fault_14 (fun hf => ?_)
    refine zk_if_ge (tgt := 26) hx hb dX1_fault_15 (by decide) hf (fun h => h) (fun hf => ?_) (fun hf => ?_)
    · refine lv_aload_n hx hb dX1_fault_26 rfl (lv_at hl 0 rfl) ?_
      refine zk_iloadn hx hb dX1_fault_27 rfl (lv_at hl 1 rfl) ?_
      obtain ⟨v2, s3, hq, hf⟩ := zk_b2s hf
      refine zk_callVW (As := [zk_I p1]) (rest := []) ⟨hx, hb, hml, hown, hts⟩ (zw_X1_faultOf l hD N p1 σ _ _ hq) (cwV 1 hts (lw_V q1086 q1088 qs45 q88 q1089) rfl rfl rfl (by decide +kernel) ⟨Nat.le_of_ble_eq_true rfl, Nat.le_of_ble_eq_true rfl⟩) hKX hP hS (va_recv hK hP (ci := 1) (q0 := 0) rfl rfl) rfl hl.1 rfl (Nat.le_of_ble_eq_true rfl) dX1_fault_28 ⟨Nat.le_of_ble_eq_true rfl, Nat.le_of_ble_eq_true rfl⟩ (fun H locs hP hS => ?_)
      exact zk_iret hx hb hr hlk (zk_p1 hf) (zk_pB hf hP) hS dX1_fault_31
    · refine lv_aload_n hx hb dX1_fault_18 rfl (lv_at hl 0 rfl) ?_
      refine zk_iconst hx hb dX1_fault_19 ?_
      obtain ⟨v4, s5, hq, hf⟩ := zk_b2s hf
      refine zk_callVW (As := [zk_I 1]) (rest := []) ⟨hx, hb, hml, hown, hts⟩ (zw_X1_find l hD 1 σ _ _ hq) (cwV 1 hts (lw_V q1030 q1032 qs40 q88 q1033) rfl rfl rfl (by decide +kernel) ⟨Nat.le_of_ble_eq_true rfl, Nat.le_of_ble_eq_true rfl⟩) hKX hP hS (va_recv hK hP (ci := 1) (q0 := 0) rfl rfl) rfl hl.1 rfl (Nat.le_of_ble_eq_true rfl) dX1_fault_20 ⟨Nat.le_of_ble_eq_true rfl, Nat.le_of_ble_eq_true rfl⟩ (fun H locs hP hS => ?_)
      refine lv_goto (tgt := 31) hx hb dX1_fault_23 (by decide) ?_
      exact zk_iret hx hb hr hlk (zk_p1 hf) (zk_pB hf hP) hS dX1_fault_31
  · refine zk_iconst hx hb dX1_fault_7 ?_
    exact zk_iret hx hb hr hlk (zk_p1 hf) (zk_pB hf hP) hS dX1_fault_8
abbrev zw_X1_river_rm : Room := { frames := 6, cells := 0, slots := 0, locals := 147 }
abbrev zw_X1_river_vs (o : Nat) (p1 : Int) : List Value := [.ref o, zk_I p1]
set_option maxHeartbeats 4000000 in
set_option maxRecDepth 100000 in
theorem zw_X1_river (l : Launch) {D : va_G} {o : Nat} {a : Nat → Nat} {dA : Nat → ClassId} {A : Nat → Prop} (hD : ∀ τ, va_D A (zm_P o a dA τ)) (N : Nat) (p1 : Int) (σ : ZS) (r : Int) (σ' : ZS) (hf : zm_river N p1 σ = some (r, σ')) : zk_MW l yX1_river (ws_ yX1_river cX1_river 3 (Option.some Jvm.ClassFile.FieldType.int)) zw_X1_river_rm D zk_cl (zk_ty dA) A (zw_X1_river_vs o p1) (zm_P o a dA σ) (zm_P o a dA σ') (some (zk_I r)) := by
  refine zk_startW (by decide +kernel) (Nat.le_of_ble_eq_true rfl) (fun p e s m below meth c H locs ls hx hb hr hlk hml hown hts hKX hP hS hl => ?_)
  have hl : lv_has ls 3 [(0, .ref o), (1, zk_I p1)] := hl
  have hK := hKX.1
  have hown : s.vm.findClass RX1 = some m.cls := hown
  have hf : zm_river N p1 σ = some (r, σ') := hf
  have hJ170 : ∀ (s0 : ZS) (H : Heap) (locs : List Loc) (ls : Array Slot), zm_river_j170 N  s0 = some (r, σ') → lv_has ls 3 [(0, .ref o)] → va_P D zk_cl (zm_P o a dA s0) H → va_S A s.heap H locs → W p l e zw_X1_river_rm s m (zw_X1_river_vs o p1).toArray below meth c H locs 0 0 (MQ below (zk_Q (some (zk_I r)) (fun t => va_P D zk_cl (zm_P o a dA σ') t.heap) A) (zw_X1_river_vs o p1).toArray s 0 0 A) (F0 m 170 ls []) := by
    intro s0 H locs ls hf hl hP hS
    refine lv_aload_n hx hb dX1_river_170 rfl (lv_at hl 0 rfl) ?_
    refine zm_rget hx hb hts hown hK hP 1 (by decide) q950 rfl dX1_river_171 ?_
    exact zk_iret hx hb hr hlk (zk_p1 hf) (zk_pB hf hP) hS dX1_river_174
  have hL146 : ∀ (n : Nat) (x2 : Int) (s0 : ZS) (H : Heap) (locs : List Loc) (ls : Array Slot), zk_b (zk_loop (α := Int × ZS) (β := ZS) n (fun a => zm_river_b146 N a.1 a.2) (x2, s0)) (fun e => zm_river_j170 N e) = some (r, σ') → lv_has ls 3 [(0, .ref o), (2, zk_I x2)] → va_P D zk_cl (zm_P o a dA s0) H → va_S A s.heap H locs → W p l e zw_X1_river_rm s m (zw_X1_river_vs o p1).toArray below meth c H locs 0 0 (MQ below (zk_Q (some (zk_I r)) (fun t => va_P D zk_cl (zm_P o a dA σ') t.heap) A) (zw_X1_river_vs o p1).toArray s 0 0 A) (F0 m 146 ls []) := by
    intro n
    induction n with
    | zero => intro x2 s0 H locs ls hf; exact (zk_l0 hf).elim
    | succ n ih146 =>
      intro x2 s0 H locs ls hf hl hP hS
      obtain ⟨c146, hf, hc146⟩ := zk_ls hf
      refine zk_iloadn hx hb dX1_river_146 rfl (lv_at hl 1 rfl) ?_
      refine zk_iconst hx hb dX1_river_147 ?_
      refine zk_icmp_ge (tgt := 170) hx hb dX1_river_148 (by decide) hf (fun h => ⟨h, by decide⟩) (fun hf => ?_) (fun hf => ?_)
      · obtain rfl := zk_so hf
        exact hJ170 _ H locs ls hc146 (lv_sub hl [0] rfl) hP hS
      · refine lv_aload_n hx hb dX1_river_151 rfl (lv_at hl 0 rfl) ?_
        refine zm_rget hx hb hts hown hK hP 0 (by decide) q949 rfl dX1_river_152 ?_
        refine zk_sipush hx hb dX1_river_155 (by decide) ?_
        refine zk_iloadn hx hb dX1_river_158 rfl (lv_at hl 1 rfl) ?_
        refine zk_imul hx hb dX1_river_159 ?_
        refine zk_iconst hx hb dX1_river_160 ?_
        refine zk_iadd hx hb dX1_river_161 ?_
        refine zk_iconst hx hb dX1_river_162 ?_
        refine zk_iastN hx hb hK hP hD hS 1 0 0 rfl rfl (N := 3305) ⟨by decide, by decide⟩ (zm_t0 _ _ _) hf dX1_river_163 (fun s14 H locs hf hP hS => ?_)
        refine zk_iincN (lv' := fun x2_15 => [(2, zk_I x2_15), (0, .ref o)]) hx hb dX1_river_164 hl (k := 1) rfl (by decide) (fun _ => rfl) hf (fun x2_15 hf ls hl => ?_)
        refine lv_goto (tgt := 146) hx hb dX1_river_167 (by decide) ?_
        obtain rfl := zk_so hf
        exact ih146 _ _ H locs ls hc146 (lv_sub hl [1, 0] rfl) hP hS
  have hJ144 : ∀ (s0 : ZS) (H : Heap) (locs : List Loc) (ls : Array Slot), zm_river_j144 N  s0 = some (r, σ') → lv_has ls 3 [(0, .ref o)] → va_P D zk_cl (zm_P o a dA s0) H → va_S A s.heap H locs → W p l e zw_X1_river_rm s m (zw_X1_river_vs o p1).toArray below meth c H locs 0 0 (MQ below (zk_Q (some (zk_I r)) (fun t => va_P D zk_cl (zm_P o a dA σ') t.heap) A) (zw_X1_river_vs o p1).toArray s 0 0 A) (F0 m 144 ls []) := by
    intro s0 H locs ls hf hl hP hS
    refine zk_iconst hx hb dX1_river_144 ?_
    refine lv_istore_n (lv' := [(2, zk_I 1), (0, .ref o)]) hx hb dX1_river_145 rfl hl (by decide) rfl (fun ls hl => ?_)
    exact hL146 N _ _ H locs ls hf (lv_sub hl [1, 0] rfl) hP hS
  have hL79 : ∀ (n : Nat) (x2 : Int) (s0 : ZS) (H : Heap) (locs : List Loc) (ls : Array Slot), zk_b (zk_loop (α := Int × ZS) (β := ZS) n (fun a => zm_river_b79 N a.1 a.2) (x2, s0)) (fun e => zm_river_j144 N e) = some (r, σ') → lv_has ls 3 [(0, .ref o), (2, zk_I x2)] → va_P D zk_cl (zm_P o a dA s0) H → va_S A s.heap H locs → W p l e zw_X1_river_rm s m (zw_X1_river_vs o p1).toArray below meth c H locs 0 0 (MQ below (zk_Q (some (zk_I r)) (fun t => va_P D zk_cl (zm_P o a dA σ') t.heap) A) (zw_X1_river_vs o p1).toArray s 0 0 A) (F0 m 79 ls []) := by
    intro n
    induction n with
    | zero => intro x2 s0 H locs ls hf; exact (zk_l0 hf).elim
    | succ n ih79 =>
      intro x2 s0 H locs ls hf hl hP hS
      obtain ⟨c79, hf, hc79⟩ := zk_ls hf
      refine zk_iloadn hx hb dX1_river_79 rfl (lv_at hl 1 rfl) ?_
      refine lv_aload_n hx hb dX1_river_80 rfl (lv_at hl 0 rfl) ?_
      refine zm_rget hx hb hts hown hK hP 1 (by decide) q950 rfl dX1_river_81 ?_
      refine zk_icmp_ge (tgt := 144) hx hb dX1_river_84 (by decide) hf (fun h => h) (fun hf => ?_) (fun hf => ?_)
      · obtain rfl := zk_so hf
        exact hJ144 _ H locs ls hc79 (lv_sub hl [0] rfl) hP hS
      · refine lv_aload_n hx hb dX1_river_87 rfl (lv_at hl 0 rfl) ?_
        refine zm_rget hx hb hts hown hK hP 2 (by decide) q951 rfl dX1_river_88 ?_
        refine zk_iloadn hx hb dX1_river_91 rfl (lv_at hl 1 rfl) ?_
        refine lv_aload_n hx hb dX1_river_92 rfl (lv_at hl 0 rfl) ?_
        refine zm_rget hx hb hts hown hK hP 16 (by decide) q965 rfl dX1_river_93 ?_
        refine zk_iconst hx hb dX1_river_96 ?_
        refine zk_iloadn hx hb dX1_river_97 rfl (lv_at hl 1 rfl) ?_
        refine zk_imul hx hb dX1_river_98 ?_
        refine zk_iald hx hb hK hP 8 0 rfl rfl (N := 18) ⟨by decide, by decide⟩ hf dX1_river_99 (fun hf => ?_)
        refine zk_iastN hx hb hK hP hD hS 2 0 2 rfl rfl (N := 6) ⟨by decide, by decide⟩ (zm_t2 _ _ _) hf dX1_river_100 (fun s10 H locs hf hP hS => ?_)
        refine lv_aload_n hx hb dX1_river_101 rfl (lv_at hl 0 rfl) ?_
        refine zm_rget hx hb hts hown hK hP 0 (by decide) q949 rfl dX1_river_102 ?_
        refine zk_iconst hx hb dX1_river_105 ?_
        refine zk_iloadn hx hb dX1_river_106 rfl (lv_at hl 1 rfl) ?_
        refine zk_iadd hx hb dX1_river_107 ?_
        refine lv_aload_n hx hb dX1_river_108 rfl (lv_at hl 0 rfl) ?_
        refine zm_rget hx hb hts hown hK hP 16 (by decide) q965 rfl dX1_river_109 ?_
        refine zk_iconst hx hb dX1_river_112 ?_
        refine zk_iloadn hx hb dX1_river_113 rfl (lv_at hl 1 rfl) ?_
        refine zk_imul hx hb dX1_river_114 ?_
        refine zk_iconst hx hb dX1_river_115 ?_
        refine zk_iadd hx hb dX1_river_116 ?_
        refine zk_iald hx hb hK hP 8 0 rfl rfl (N := 18) ⟨by decide, by decide⟩ hf dX1_river_117 (fun hf => ?_)
        refine zk_iastN hx hb hK hP hD hS 1 0 0 rfl rfl (N := 3305) ⟨by decide, by decide⟩ (zm_t0 _ _ _) hf dX1_river_118 (fun s11 H locs hf hP hS => ?_)
        refine lv_aload_n hx hb dX1_river_119 rfl (lv_at hl 0 rfl) ?_
        refine zm_rget hx hb hts hown hK hP 0 (by decide) q949 rfl dX1_river_120 ?_
        refine zk_bipush hx hb dX1_river_123 (by decide) ?_
        refine zk_iloadn hx hb dX1_river_125 rfl (lv_at hl 1 rfl) ?_
        refine zk_iadd hx hb dX1_river_126 ?_
        refine lv_aload_n hx hb dX1_river_127 rfl (lv_at hl 0 rfl) ?_
        refine zm_rget hx hb hts hown hK hP 16 (by decide) q965 rfl dX1_river_128 ?_
        refine zk_iconst hx hb dX1_river_131 ?_
        refine zk_iloadn hx hb dX1_river_132 rfl (lv_at hl 1 rfl) ?_
        refine zk_imul hx hb dX1_river_133 ?_
        refine zk_iconst hx hb dX1_river_134 ?_
        refine zk_iadd hx hb dX1_river_135 ?_
        refine zk_iald hx hb hK hP 8 0 rfl rfl (N := 18) ⟨by decide, by decide⟩ hf dX1_river_136 (fun hf => ?_)
        refine zk_iastN hx hb hK hP hD hS 1 0 0 rfl rfl (N := 3305) ⟨by decide, by decide⟩ (zm_t0 _ _ _) hf dX1_river_137 (fun s12 H locs hf hP hS => ?_)
        refine zk_iincN (lv' := fun x2_13 => [(2, zk_I x2_13), (0, .ref o)]) hx hb dX1_river_138 hl (k := 1) rfl (by decide) (fun _ => rfl) hf (fun x2_13 hf ls hl => ?_)
        refine lv_goto (tgt := 79) hx hb dX1_river_141 (by decide) ?_
        obtain rfl := zk_so hf
        exact ih79 _ _ H locs ls hc79 (lv_sub hl [1, 0] rfl) hP hS
  have hJ59 : ∀ (s0 : ZS) (H : Heap) (locs : List Loc) (ls : Array Slot), zm_river_j59 N  s0 = some (r, σ') → lv_has ls 3 [(0, .ref o)] → va_P D zk_cl (zm_P o a dA s0) H → va_S A s.heap H locs → W p l e zw_X1_river_rm s m (zw_X1_river_vs o p1).toArray below meth c H locs 0 0 (MQ below (zk_Q (some (zk_I r)) (fun t => va_P D zk_cl (zm_P o a dA σ') t.heap) A) (zw_X1_river_vs o p1).toArray s 0 0 A) (F0 m 59 ls []) := by
    intro s0 H locs ls hf hl hP hS
    refine lv_aload_n hx hb dX1_river_59 rfl (lv_at hl 0 rfl) ?_
    refine zm_rget hx hb hts hown hK hP 0 (by decide) q949 rfl dX1_river_60 ?_
    refine zk_iconst hx hb dX1_river_63 ?_
    refine lv_aload_n hx hb dX1_river_64 rfl (lv_at hl 0 rfl) ?_
    refine zm_rget hx hb hts hown hK hP 15 (by decide) q964 rfl dX1_river_65 ?_
    refine zk_iastN hx hb hK hP hD hS 1 0 0 rfl rfl (N := 3305) ⟨by decide, by decide⟩ (zm_t0 _ _ _) hf dX1_river_68 (fun s8 H locs hf hP hS => ?_)
    refine lv_aload_n hx hb dX1_river_69 rfl (lv_at hl 0 rfl) ?_
    refine lv_aload_n hx hb dX1_river_70 rfl (lv_at hl 0 rfl) ?_
    refine zm_rget hx hb hts hown hK hP 17 (by decide) q966 rfl dX1_river_71 ?_
    refine zm_rput hx hb hts hown hK hP hD hS 1 (by decide) q950 rfl rfl rfl (zm_s1 _ _) hf dX1_river_74 (fun s9 H locs hf hP hS => ?_)
    refine zk_iconst hx hb dX1_river_77 ?_
    refine lv_istore_n (lv' := [(2, zk_I 0), (0, .ref o)]) hx hb dX1_river_78 rfl hl (by decide) rfl (fun ls hl => ?_)
    exact hL79 N _ _ H locs ls hf (lv_sub hl [1, 0] rfl) hP hS
  have hL39 : ∀ (n : Nat) (x2 : Int) (s0 : ZS) (H : Heap) (locs : List Loc) (ls : Array Slot), zk_b (zk_loop (α := Int × ZS) (β := ZS) n (fun a => zm_river_b39 N a.1 a.2) (x2, s0)) (fun e => zm_river_j59 N e) = some (r, σ') → lv_has ls 3 [(0, .ref o), (2, zk_I x2)] → va_P D zk_cl (zm_P o a dA s0) H → va_S A s.heap H locs → W p l e zw_X1_river_rm s m (zw_X1_river_vs o p1).toArray below meth c H locs 0 0 (MQ below (zk_Q (some (zk_I r)) (fun t => va_P D zk_cl (zm_P o a dA σ') t.heap) A) (zw_X1_river_vs o p1).toArray s 0 0 A) (F0 m 39 ls []) := by
    intro n
    induction n with
    | zero => intro x2 s0 H locs ls hf; exact (zk_l0 hf).elim
    | succ n ih39 =>
      intro x2 s0 H locs ls hf hl hP hS
      obtain ⟨c39, hf, hc39⟩ := zk_ls hf
      refine zk_iloadn hx hb dX1_river_39 rfl (lv_at hl 1 rfl) ?_
      refine zk_sipush hx hb dX1_river_40 (by decide) ?_
      refine zk_icmp_ge (tgt := 59) hx hb dX1_river_43 (by decide) hf (fun h => ⟨h, by decide⟩) (fun hf => ?_) (fun hf => ?_)
      · obtain rfl := zk_so hf
        exact hJ59 _ H locs ls hc39 (lv_sub hl [0] rfl) hP hS
      · refine lv_aload_n hx hb dX1_river_46 rfl (lv_at hl 0 rfl) ?_
        refine zm_rget hx hb hts hown hK hP 0 (by decide) q949 rfl dX1_river_47 ?_
        refine zk_iloadn hx hb dX1_river_50 rfl (lv_at hl 1 rfl) ?_
        refine zk_iconst hx hb dX1_river_51 ?_
        refine zk_iastN hx hb hK hP hD hS 1 0 0 rfl rfl (N := 3305) ⟨by decide, by decide⟩ (zm_t0 _ _ _) hf dX1_river_52 (fun s6 H locs hf hP hS => ?_)
        refine zk_iincN (lv' := fun x2_7 => [(2, zk_I x2_7), (0, .ref o)]) hx hb dX1_river_53 hl (k := 1) rfl (by decide) (fun _ => rfl) hf (fun x2_7 hf ls hl => ?_)
        refine lv_goto (tgt := 39) hx hb dX1_river_56 (by decide) ?_
        obtain rfl := zk_so hf
        exact ih39 _ _ H locs ls hc39 (lv_sub hl [1, 0] rfl) hP hS
  refine zk_iloadn hx hb dX1_river_0 rfl (lv_at hl 1 rfl) ?_
  obtain ⟨v1, hq, hf⟩ := zk_bs hf
  refine zk_callSS (As := [zk_I p1]) (rest := []) ⟨hx, hb, hml, hown, hts⟩ (zw_X1_isText l p1 _ hq) (va_cwS 1 hts (lw_S q1074 q1075 q88 q1076) rfl rfl rfl (by decide +kernel) ⟨Nat.le_of_ble_eq_true rfl, Nat.le_of_ble_eq_true rfl⟩) hP hS rfl hl.1 rfl (Nat.le_of_ble_eq_true rfl) dX1_river_1 ⟨Nat.le_of_ble_eq_true rfl, Nat.le_of_ble_eq_true rfl⟩ (fun H locs hP hS => ?_)
  refine zk_if_ne (tgt := 9) hx hb dX1_river_4 (by decide) hf (fun h => h) (fun hf => ?_) (fun hf => ?_)
  · refine lv_aload_n hx hb dX1_river_9 rfl (lv_at hl 0 rfl) ?_
    refine zm_rget hx hb hts hown hK hP 5 (by decide) q954 rfl dX1_river_10 ?_
    refine zk_iloadn hx hb dX1_river_13 rfl (lv_at hl 1 rfl) ?_
    refine zk_iald hx hb hK hP 5 0 rfl rfl (N := 4) ⟨by decide, by decide⟩ hf dX1_river_14 (fun hf => ?_)
    refine zk_if_ge (tgt := 24) hx hb dX1_river_15 (by decide) hf (fun h => h) (fun hf => ?_) (fun hf => ?_)
    · refine lv_aload_n hx hb dX1_river_24 rfl (lv_at hl 0 rfl) ?_
      refine zk_iloadn hx hb dX1_river_25 rfl (lv_at hl 1 rfl) ?_
      obtain ⟨v2, s3, hq, hf⟩ := zk_b2s hf
      refine zk_callVW (As := [zk_I p1]) (rest := []) ⟨hx, hb, hml, hown, hts⟩ (zw_X1_faultOf l hD N p1 σ _ _ hq) (cwV 1 hts (lw_V q1086 q1088 qs45 q88 q1089) rfl rfl rfl (by decide +kernel) ⟨Nat.le_of_ble_eq_true rfl, Nat.le_of_ble_eq_true rfl⟩) hKX hP hS (va_recv hK hP (ci := 1) (q0 := 0) rfl rfl) rfl hl.1 rfl (Nat.le_of_ble_eq_true rfl) dX1_river_26 ⟨Nat.le_of_ble_eq_true rfl, Nat.le_of_ble_eq_true rfl⟩ (fun H locs hP hS => ?_)
      refine zk_bipush hx hb dX1_river_29 (by decide) ?_
      refine zk_icmp_eq (tgt := 37) hx hb dX1_river_31 (by decide) hf (fun h => ⟨h, by decide⟩) (fun hf => ?_) (fun hf => ?_)
      · refine zk_iconst hx hb dX1_river_37 ?_
        refine lv_istore_n (lv' := [(2, zk_I 0), (0, .ref o), (1, zk_I p1)]) hx hb dX1_river_38 rfl hl (by decide) rfl (fun ls hl => ?_)
        exact hL39 N _ _ H locs ls hf (lv_sub hl [1, 0] rfl) hP hS
      · refine zk_bipush hx hb dX1_river_34 (by decide) ?_
        exact zk_iret hx hb hr hlk (zk_p1 hf) (zk_pB hf hP) hS dX1_river_36
    · refine lv_aload_n hx hb dX1_river_18 rfl (lv_at hl 0 rfl) ?_
      refine zk_iconst hx hb dX1_river_19 ?_
      obtain ⟨v4, s5, hq, hf⟩ := zk_b2s hf
      refine zk_callVW (As := [zk_I 1]) (rest := []) ⟨hx, hb, hml, hown, hts⟩ (zw_X1_find l hD 1 σ _ _ hq) (cwV 1 hts (lw_V q1030 q1032 qs40 q88 q1033) rfl rfl rfl (by decide +kernel) ⟨Nat.le_of_ble_eq_true rfl, Nat.le_of_ble_eq_true rfl⟩) hKX hP hS (va_recv hK hP (ci := 1) (q0 := 0) rfl rfl) rfl hl.1 rfl (Nat.le_of_ble_eq_true rfl) dX1_river_20 ⟨Nat.le_of_ble_eq_true rfl, Nat.le_of_ble_eq_true rfl⟩ (fun H locs hP hS => ?_)
      exact zk_iret hx hb hr hlk (zk_p1 hf) (zk_pB hf hP) hS dX1_river_23
  · refine zk_iconst hx hb dX1_river_7 ?_
    exact zk_iret hx hb hr hlk (zk_p1 hf) (zk_pB hf hP) hS dX1_river_8
abbrev zw_X1_isOne_rm : Room := { frames := 2, cells := 0, slots := 0, locals := 57 }
abbrev zw_X1_isOne_vs (o : Nat) (p1 : Int) : List Value := [.ref o, zk_I p1]
set_option maxHeartbeats 4000000 in
set_option maxRecDepth 100000 in
theorem zw_X1_isOne (l : Launch) {D : va_G} {o : Nat} {a : Nat → Nat} {dA : Nat → ClassId} (p1 : Int) (σ : ZS) (r : Int) (hf : zm_isOne p1 σ = some r) : zk_MR l yX1_isOne (ws_ yX1_isOne cX1_isOne 2 (Option.some Jvm.ClassFile.FieldType.boolean)) zw_X1_isOne_rm D zk_cl (zk_ty dA) (zw_X1_isOne_vs o p1) (zm_P o a dA σ) (some (zk_I r)) := by
  refine zk_startW (by decide +kernel) (Nat.le_of_ble_eq_true rfl) (fun p e s m below meth c H locs ls hx hb hr hlk hml hown hts hKX hP hS hl => ?_)
  have hl : lv_has ls 2 [(0, .ref o), (1, zk_I p1)] := hl
  have hK := hKX.1
  have hown : s.vm.findClass RX1 = some m.cls := hown
  have hf : zm_isOne p1 σ = some r := hf
  refine zk_iloadn hx hb dX1_isOne_0 rfl (lv_at hl 1 rfl) ?_
  refine zk_ri2l hx hb dX1_isOne_1 hf (fun hf => ?_)
  refine zk_lconst (v := 0) hx hb dX1_isOne_2 rfl ?_
  refine lv_aload_n hx hb dX1_isOne_3 rfl (lv_at hl 0 rfl) ?_
  refine zm_rget hx hb hts hown hK hP 1 (by decide) q950 rfl dX1_isOne_4 ?_
  refine zk_iconst hx hb dX1_isOne_7 ?_
  refine zk_isub hx hb dX1_isOne_8 ?_
  refine zk_ri2l hx hb dX1_isOne_9 hf (fun hf => ?_)
  obtain ⟨v1, hq, hf⟩ := zk_bs hf
  refine zk_callSS (As := [zk_L p1, zk_L 0, zk_L (σ 1 0 - 1)]) (rest := []) ⟨hx, hb, hml, hown, hts⟩ (zw_X1_in l p1 0 (σ 1 0 - 1) _ hq) (va_cwS 3 hts (lw_S q1027 q1028 q88 q1029) rfl rfl rfl (by decide +kernel) ⟨Nat.le_of_ble_eq_true rfl, Nat.le_of_ble_eq_true rfl⟩) hP hS rfl hl.1 rfl (Nat.le_of_ble_eq_true rfl) dX1_isOne_10 ⟨Nat.le_of_ble_eq_true rfl, Nat.le_of_ble_eq_true rfl⟩ (fun H locs hP hS => ?_)
  obtain ⟨hz, hf⟩ := zk_gs hf
  exact zk_zret hx hb hr hlk hz (Option.some.inj hf) (fun _ _ => trivial) hS dX1_isOne_13
abbrev zw_X1_apart_rm : Room := { frames := 1, cells := 0, slots := 0, locals := 32 }
abbrev zw_X1_apart_vs (p0 p1 : Int) : List Value := [zk_I p0, zk_I p1]
set_option maxHeartbeats 4000000 in
set_option maxRecDepth 100000 in
theorem zw_X1_apart (l : Launch) (p0 p1 : Int) (r : Int) (hf : zm_apart p0 p1 = some r) : zk_MS l yX1_apart (ws_ yX1_apart cX1_apart 2 (Option.some Jvm.ClassFile.FieldType.int)) zw_X1_apart_rm (zw_X1_apart_vs p0 p1) (some (zk_I r)) := by
  refine zk_startS (by decide +kernel) (Nat.le_of_ble_eq_true rfl) (fun p e s m below meth c H locs ls hx hb hr hlk hml hown hts hS hl => ?_)
  have hl : lv_has ls 2 [(0, zk_I p0), (1, zk_I p1)] := hl
  have hown : s.vm.findClass RX1 = some m.cls := hown
  have hf : zm_apart p0 p1 = some r := hf
  refine zk_iloadn hx hb dX1_apart_0 rfl (lv_at hl 0 rfl) ?_
  refine zk_iloadn hx hb dX1_apart_1 rfl (lv_at hl 1 rfl) ?_
  obtain ⟨hg, hf⟩ := zk_gs hf
  have hV : W p l e zw_X1_apart_rm s m (zw_X1_apart_vs p0 p1).toArray below meth c H locs 0 0 (MQ below (zk_Q (some (zk_I r)) (fun _ => True) (fun _ => False)) (zw_X1_apart_vs p0 p1).toArray s 0 0 (fun _ => False)) (F0 m 14 ls [zk_I (if p0 ≤ p1 then p1 - p0 else p0 - p1)]) := by
    exact zk_iret hx hb hr hlk (Option.some.inj hf) (fun _ _ => trivial) hS dX1_apart_14
  refine zk_icmp_leV (tgt := 11) hx hb dX1_apart_2 (by decide) ((fun h => h) hg) (fun hc => ?_) (fun hc => ?_)
  · rw [if_pos hc] at hV
    refine zk_iloadn hx hb dX1_apart_11 rfl (lv_at hl 1 rfl) ?_
    refine zk_iloadn hx hb dX1_apart_12 rfl (lv_at hl 0 rfl) ?_
    refine zk_isub hx hb dX1_apart_13 ?_
    exact hV
  · rw [if_neg hc] at hV
    refine zk_iloadn hx hb dX1_apart_5 rfl (lv_at hl 0 rfl) ?_
    refine zk_iloadn hx hb dX1_apart_6 rfl (lv_at hl 1 rfl) ?_
    refine zk_isub hx hb dX1_apart_7 ?_
    refine lv_goto (tgt := 14) hx hb dX1_apart_8 (by decide) ?_
    exact hV
abbrev zw_X1_farOf_rm : Room := { frames := 2, cells := 0, slots := 0, locals := 53 }
abbrev zw_X1_farOf_vs (o : Nat) (p1 p2 : Int) : List Value := [.ref o, zk_I p1, zk_I p2]
set_option maxHeartbeats 4000000 in
set_option maxRecDepth 100000 in
theorem zw_X1_farOf (l : Launch) {D : va_G} {o : Nat} {a : Nat → Nat} {dA : Nat → ClassId} (p1 p2 : Int) (σ : ZS) (r : Int) (hf : zm_farOf p1 p2 σ = some r) : zk_MR l yX1_farOf (ws_ yX1_farOf cX1_farOf 3 (Option.some Jvm.ClassFile.FieldType.int)) zw_X1_farOf_rm D zk_cl (zk_ty dA) (zw_X1_farOf_vs o p1 p2) (zm_P o a dA σ) (some (zk_I r)) := by
  refine zk_startW (by decide +kernel) (Nat.le_of_ble_eq_true rfl) (fun p e s m below meth c H locs ls hx hb hr hlk hml hown hts hKX hP hS hl => ?_)
  have hl : lv_has ls 3 [(0, .ref o), (1, zk_I p1), (2, zk_I p2)] := hl
  have hK := hKX.1
  have hown : s.vm.findClass RX1 = some m.cls := hown
  have hf : zm_farOf p1 p2 σ = some r := hf
  refine lv_aload_n hx hb dX1_farOf_0 rfl (lv_at hl 0 rfl) ?_
  refine zm_rget hx hb hts hown hK hP 0 (by decide) q949 rfl dX1_farOf_1 ?_
  refine zk_iloadn hx hb dX1_farOf_4 rfl (lv_at hl 1 rfl) ?_
  refine zk_iconst hx hb dX1_farOf_5 ?_
  refine zk_iadd hx hb dX1_farOf_6 ?_
  refine zk_iloadn hx hb dX1_farOf_7 rfl (lv_at hl 2 rfl) ?_
  refine zk_iadd hx hb dX1_farOf_8 ?_
  refine zk_iald hx hb hK hP 1 0 rfl rfl (N := 3305) ⟨by decide, by decide⟩ hf dX1_farOf_9 (fun hf => ?_)
  refine lv_aload_n hx hb dX1_farOf_10 rfl (lv_at hl 0 rfl) ?_
  refine zm_rget hx hb hts hown hK hP 0 (by decide) q949 rfl dX1_farOf_11 ?_
  refine zk_iloadn hx hb dX1_farOf_14 rfl (lv_at hl 1 rfl) ?_
  refine zk_iconst hx hb dX1_farOf_15 ?_
  refine zk_iadd hx hb dX1_farOf_16 ?_
  refine zk_iald hx hb hK hP 1 0 rfl rfl (N := 3305) ⟨by decide, by decide⟩ hf dX1_farOf_17 (fun hf => ?_)
  obtain ⟨v1, hq, hf⟩ := zk_bs hf
  refine zk_callSS (As := [zk_I (σ 0 (p1 + 3 + p2)), zk_I (σ 0 (p1 + 2))]) (rest := []) ⟨hx, hb, hml, hown, hts⟩ (zw_X1_apart l (σ 0 (p1 + 3 + p2)) (σ 0 (p1 + 2)) _ hq) (va_cwS 2 hts (lw_S q1143 q1144 q88 q1145) rfl rfl rfl (by decide +kernel) ⟨Nat.le_of_ble_eq_true rfl, Nat.le_of_ble_eq_true rfl⟩) hP hS rfl hl.1 rfl (Nat.le_of_ble_eq_true rfl) dX1_farOf_18 ⟨Nat.le_of_ble_eq_true rfl, Nat.le_of_ble_eq_true rfl⟩ (fun H locs hP hS => ?_)
  exact zk_iret hx hb hr hlk (Option.some.inj hf) (fun _ _ => trivial) hS dX1_farOf_21
abbrev zw_X1_daresBy_rm : Room := { frames := 1, cells := 0, slots := 0, locals := 32 }
abbrev zw_X1_daresBy_vs (p0 p1 p2 p3 : Int) : List Value := [zk_I p0, zk_I p1, zk_I p2, zk_I p3]
set_option maxHeartbeats 4000000 in
set_option maxRecDepth 100000 in
theorem zw_X1_daresBy (l : Launch) (p0 p1 p2 p3 : Int) (r : Int) (hf : zm_daresBy p0 p1 p2 p3 = some r) : zk_MS l yX1_daresBy (ws_ yX1_daresBy cX1_daresBy 5 (Option.some Jvm.ClassFile.FieldType.int)) zw_X1_daresBy_rm (zw_X1_daresBy_vs p0 p1 p2 p3) (some (zk_I r)) := by
  refine zk_startS (by decide +kernel) (Nat.le_of_ble_eq_true rfl) (fun p e s m below meth c H locs ls hx hb hr hlk hml hown hts hS hl => ?_)
  have hl : lv_has ls 5 [(0, zk_I p0), (1, zk_I p1), (2, zk_I p2), (3, zk_I p3)] := hl
  have hown : s.vm.findClass RX1 = some m.cls := hown
  have hf : zm_daresBy p0 p1 p2 p3 = some r := hf
  refine zk_iloadn hx hb dX1_daresBy_0 rfl (lv_at hl 1 rfl) ?_
  refine zk_iconst hx hb dX1_daresBy_1 ?_
  obtain ⟨hg, hf⟩ := zk_gs hf
  have hV : W p l e zw_X1_daresBy_rm s m (zw_X1_daresBy_vs p0 p1 p2 p3).toArray below meth c H locs 0 0 (MQ below (zk_Q (some (zk_I r)) (fun _ => True) (fun _ => False)) (zw_X1_daresBy_vs p0 p1 p2 p3).toArray s 0 0 (fun _ => False)) (F0 m 10 ls [zk_I (if 5 ≤ p1 then p1 else 0)]) := by
    refine zk_istoreN (lv' := fun x4_1 => [(4, zk_I x4_1), (0, zk_I p0), (1, zk_I p1), (2, zk_I p2), (3, zk_I p3)]) hx hb dX1_daresBy_10 hl (by decide) (fun _ => rfl) hf (fun x4_1 hf ls hl => ?_)
    refine zk_iloadn hx hb dX1_daresBy_12 rfl (lv_at hl 1 rfl) ?_
    obtain ⟨hg, hf⟩ := zk_gs hf
    rcases zk_sw hf with ⟨hq0, hf⟩ | ⟨hq0, hf⟩
    · refine zk_tabIn (tgt := 48) hx hb dX1_daresBy_13 hq0 (by decide) rfl (by decide) ?_
      refine zk_iloadn hx hb dX1_daresBy_48 rfl (lv_at hl 3 rfl) ?_
      refine zk_iconst hx hb dX1_daresBy_49 ?_
      refine zk_rirem hx hb dX1_daresBy_50 hf (fun hf => ?_)
      obtain ⟨hg, hf⟩ := zk_gs hf
      have hV : W p l e zw_X1_daresBy_rm s m (zw_X1_daresBy_vs p0 p1 p2 p3).toArray below meth c H locs 0 0 (MQ below (zk_Q (some (zk_I r)) (fun _ => True) (fun _ => False)) (zw_X1_daresBy_vs p0 p1 p2 p3).toArray s 0 0 (fun _ => False)) (F0 m 61 ls [zk_I (if (p2 % 2) = 0 then 2 * p1 else p1)]) := by
        exact zk_iret hx hb hr hlk (Option.some.inj hf) (fun _ _ => trivial) hS dX1_daresBy_61
      refine zk_if_neV (tgt := 60) hx hb dX1_daresBy_51 (by decide) ((fun h => h) hg) (fun hc => ?_) (fun hc => ?_)
      · rw [if_neg hc] at hV
        refine zk_iloadn hx hb dX1_daresBy_60 rfl (lv_at hl 2 rfl) ?_
        exact hV
      · rw [if_pos hc] at hV
        refine zk_iconst hx hb dX1_daresBy_54 ?_
        refine zk_iloadn hx hb dX1_daresBy_55 rfl (lv_at hl 2 rfl) ?_
        refine zk_imul hx hb dX1_daresBy_56 ?_
        refine lv_goto (tgt := 61) hx hb dX1_daresBy_57 (by decide) ?_
        exact hV
    rcases zk_sw hf with ⟨hq1, hf⟩ | ⟨hq1, hf⟩
    · refine zk_tabIn (tgt := 62) hx hb dX1_daresBy_13 hq1 (by decide) rfl (by decide) ?_
      refine zk_iload hx hb dX1_daresBy_62 (lv_at hl 0 rfl) ?_
      exact zk_iret hx hb hr hlk (Option.some.inj hf) (fun _ _ => trivial) hS dX1_daresBy_64
    rcases zk_sw hf with ⟨hq3, hf⟩ | ⟨hq3, hf⟩
    · refine zk_tabIn (tgt := 65) hx hb dX1_daresBy_13 hq3 (by decide) rfl (by decide) ?_
      refine zk_iloadn hx hb dX1_daresBy_65 rfl (lv_at hl 2 rfl) ?_
      refine zk_iloadn hx hb dX1_daresBy_66 rfl (lv_at hl 4 rfl) ?_
      refine zk_iconst hx hb dX1_daresBy_67 ?_
      obtain ⟨hg, hf⟩ := zk_gs hf
      have hV : W p l e zw_X1_daresBy_rm s m (zw_X1_daresBy_vs p0 p1 p2 p3).toArray below meth c H locs 0 0 (MQ below (zk_Q (some (zk_I r)) (fun _ => True) (fun _ => False)) (zw_X1_daresBy_vs p0 p1 p2 p3).toArray s 0 0 (fun _ => False)) (F0 m 76 ls [zk_I (if 3 ≤ p3 then 3 else p3), zk_I p1]) := by
        refine zk_iadd hx hb dX1_daresBy_76 ?_
        exact zk_iret hx hb hr hlk (Option.some.inj hf) (fun _ _ => trivial) hS dX1_daresBy_77
      refine zk_icmp_geV (tgt := 75) hx hb dX1_daresBy_68 (by decide) ((fun h => ⟨h, by decide⟩) hg) (fun hc => ?_) (fun hc => ?_)
      · rw [if_pos hc] at hV
        refine zk_iconst hx hb dX1_daresBy_75 ?_
        exact hV
      · rw [if_neg hc] at hV
        refine zk_iloadn hx hb dX1_daresBy_71 rfl (lv_at hl 4 rfl) ?_
        refine lv_goto (tgt := 76) hx hb dX1_daresBy_72 (by decide) ?_
        exact hV
    rcases zk_sw hf with ⟨hq4, hf⟩ | ⟨hq4, hf⟩
    · refine zk_tabIn (tgt := 78) hx hb dX1_daresBy_13 hq4 (by decide) rfl (by decide) ?_
      refine zk_iload hx hb dX1_daresBy_78 (lv_at hl 0 rfl) ?_
      refine zk_bipush hx hb dX1_daresBy_80 (by decide) ?_
      obtain ⟨hg, hf⟩ := zk_gs hf
      have hV : W p l e zw_X1_daresBy_rm s m (zw_X1_daresBy_vs p0 p1 p2 p3).toArray below meth c H locs 0 0 (MQ below (zk_Q (some (zk_I r)) (fun _ => True) (fun _ => False)) (zw_X1_daresBy_vs p0 p1 p2 p3).toArray s 0 0 (fun _ => False)) (F0 m 94 ls [zk_I (if 10 ≤ x4_1 then 0 else 10 - x4_1)]) := by
        exact zk_iret hx hb hr hlk (Option.some.inj hf) (fun _ _ => trivial) hS dX1_daresBy_94
      refine zk_icmp_geV (tgt := 93) hx hb dX1_daresBy_82 (by decide) ((fun h => ⟨h, by decide⟩) hg) (fun hc => ?_) (fun hc => ?_)
      · rw [if_pos hc] at hV
        refine zk_iconst hx hb dX1_daresBy_93 ?_
        exact hV
      · rw [if_neg hc] at hV
        refine zk_bipush hx hb dX1_daresBy_85 (by decide) ?_
        refine zk_iload hx hb dX1_daresBy_87 (lv_at hl 0 rfl) ?_
        refine zk_isub hx hb dX1_daresBy_89 ?_
        refine lv_goto (tgt := 94) hx hb dX1_daresBy_90 (by decide) ?_
        exact hV
    by_cases hq2 : p0 = 3
    · refine zk_tabIn (tgt := 95) hx hb dX1_daresBy_13 hq2 (by decide) rfl (by decide) ?_
      refine zk_iloadn hx hb dX1_daresBy_95 rfl (lv_at hl 2 rfl) ?_
      exact zk_iret hx hb hr hlk (Option.some.inj hf) (fun _ _ => trivial) hS dX1_daresBy_96
    refine zk_tabOut (tgt := 95) hx hb dX1_daresBy_13 hg (by omega) (by decide) ?_
    refine zk_iloadn hx hb dX1_daresBy_95 rfl (lv_at hl 2 rfl) ?_
    exact zk_iret hx hb hr hlk (Option.some.inj hf) (fun _ _ => trivial) hS dX1_daresBy_96
  refine zk_icmp_geV (tgt := 9) hx hb dX1_daresBy_2 (by decide) ((fun h => ⟨h, by decide⟩) hg) (fun hc => ?_) (fun hc => ?_)
  · rw [if_pos hc] at hV
    refine zk_iloadn hx hb dX1_daresBy_9 rfl (lv_at hl 1 rfl) ?_
    exact hV
  · rw [if_neg hc] at hV
    refine zk_iconst hx hb dX1_daresBy_5 ?_
    refine lv_goto (tgt := 10) hx hb dX1_daresBy_6 (by decide) ?_
    exact hV
abbrev zw_X1_daresIn_rm : Room := { frames := 3, cells := 0, slots := 0, locals := 75 }
abbrev zw_X1_daresIn_vs (o : Nat) (p1 p2 : Int) : List Value := [.ref o, zk_I p1, zk_I p2]
set_option maxHeartbeats 4000000 in
set_option maxRecDepth 100000 in
theorem zw_X1_daresIn (l : Launch) {D : va_G} {o : Nat} {a : Nat → Nat} {dA : Nat → ClassId} (p1 p2 : Int) (σ : ZS) (r : Int) (hf : zm_daresIn p1 p2 σ = some r) : zk_MR l yX1_daresIn (ws_ yX1_daresIn cX1_daresIn 3 (Option.some Jvm.ClassFile.FieldType.int)) zw_X1_daresIn_rm D zk_cl (zk_ty dA) (zw_X1_daresIn_vs o p1 p2) (zm_P o a dA σ) (some (zk_I r)) := by
  refine zk_startW (by decide +kernel) (Nat.le_of_ble_eq_true rfl) (fun p e s m below meth c H locs ls hx hb hr hlk hml hown hts hKX hP hS hl => ?_)
  have hl : lv_has ls 3 [(0, .ref o), (1, zk_I p1), (2, zk_I p2)] := hl
  have hK := hKX.1
  have hown : s.vm.findClass RX1 = some m.cls := hown
  have hf : zm_daresIn p1 p2 σ = some r := hf
  refine lv_aload_n hx hb dX1_daresIn_0 rfl (lv_at hl 0 rfl) ?_
  refine zm_rget hx hb hts hown hK hP 2 (by decide) q951 rfl dX1_daresIn_1 ?_
  refine zk_iloadn hx hb dX1_daresIn_4 rfl (lv_at hl 2 rfl) ?_
  refine zk_iald hx hb hK hP 2 0 rfl rfl (N := 6) ⟨by decide, by decide⟩ hf dX1_daresIn_5 (fun hf => ?_)
  refine lv_aload_n hx hb dX1_daresIn_6 rfl (lv_at hl 0 rfl) ?_
  refine zm_rget hx hb hts hown hK hP 0 (by decide) q949 rfl dX1_daresIn_7 ?_
  refine zk_iloadn hx hb dX1_daresIn_10 rfl (lv_at hl 1 rfl) ?_
  refine zk_bipush hx hb dX1_daresIn_11 (by decide) ?_
  refine zk_iadd hx hb dX1_daresIn_13 ?_
  refine zk_iloadn hx hb dX1_daresIn_14 rfl (lv_at hl 2 rfl) ?_
  refine zk_iadd hx hb dX1_daresIn_15 ?_
  refine zk_iald hx hb hK hP 1 0 rfl rfl (N := 3305) ⟨by decide, by decide⟩ hf dX1_daresIn_16 (fun hf => ?_)
  refine lv_aload_n hx hb dX1_daresIn_17 rfl (lv_at hl 0 rfl) ?_
  refine zm_rget hx hb hts hown hK hP 0 (by decide) q949 rfl dX1_daresIn_18 ?_
  refine zk_iloadn hx hb dX1_daresIn_21 rfl (lv_at hl 1 rfl) ?_
  refine zk_iconst hx hb dX1_daresIn_22 ?_
  refine zk_iadd hx hb dX1_daresIn_23 ?_
  refine zk_iald hx hb hK hP 1 0 rfl rfl (N := 3305) ⟨by decide, by decide⟩ hf dX1_daresIn_24 (fun hf => ?_)
  refine lv_aload_n hx hb dX1_daresIn_25 rfl (lv_at hl 0 rfl) ?_
  refine zk_iloadn hx hb dX1_daresIn_26 rfl (lv_at hl 1 rfl) ?_
  refine zk_iloadn hx hb dX1_daresIn_27 rfl (lv_at hl 2 rfl) ?_
  obtain ⟨v1, hq, hf⟩ := zk_bs hf
  refine zk_callVR (As := [zk_I p1, zk_I p2]) (rest := [zk_I (σ 0 (p1 + 1)), zk_I (σ 0 (p1 + 9 + p2)), zk_I (σ 2 p2)]) ⟨hx, hb, hml, hown, hts⟩ (zw_X1_farOf l p1 p2 σ _ hq) (cwV 2 hts (lw_V q1139 q1141 qs55 q88 q1142) rfl rfl rfl (by decide +kernel) ⟨Nat.le_of_ble_eq_true rfl, Nat.le_of_ble_eq_true rfl⟩) hKX hP hS (va_recv hK hP (ci := 1) (q0 := 0) rfl rfl) rfl hl.1 rfl (Nat.le_of_ble_eq_true rfl) dX1_daresIn_28 ⟨Nat.le_of_ble_eq_true rfl, Nat.le_of_ble_eq_true rfl⟩ (fun H locs hP hS => ?_)
  obtain ⟨v2, hq, hf⟩ := zk_bs hf
  refine zk_callSS (As := [zk_I (σ 2 p2), zk_I (σ 0 (p1 + 9 + p2)), zk_I (σ 0 (p1 + 1)), zk_I v1]) (rest := []) ⟨hx, hb, hml, hown, hts⟩ (zw_X1_daresBy l (σ 2 p2) (σ 0 (p1 + 9 + p2)) (σ 0 (p1 + 1)) v1 _ hq) (va_cwS 4 hts (lw_S q1146 q1147 q88 q1148) rfl rfl rfl (by decide +kernel) ⟨Nat.le_of_ble_eq_true rfl, Nat.le_of_ble_eq_true rfl⟩) hP hS rfl hl.1 rfl (Nat.le_of_ble_eq_true rfl) dX1_daresIn_31 ⟨Nat.le_of_ble_eq_true rfl, Nat.le_of_ble_eq_true rfl⟩ (fun H locs hP hS => ?_)
  exact zk_iret hx hb hr hlk (Option.some.inj hf) (fun _ _ => trivial) hS dX1_daresIn_34
