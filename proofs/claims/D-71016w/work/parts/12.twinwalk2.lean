abbrev zw_X1_toldOf_rm : Room := { frames := 4, cells := 0, slots := 0, locals := 97 }
abbrev zw_X1_toldOf_vs (o : Nat) (p1 p2 : Int) : List Value := [.ref o, zk_I p1, zk_I p2]
set_option maxHeartbeats 4000000 in
set_option maxRecDepth 100000 in
theorem zw_X1_toldOf (l : Launch) {D : va_G} {o : Nat} {a : Nat → Nat} {dA : Nat → ClassId} (p1 p2 : Int) (σ : ZS) (r : Int) (hf : zm_toldOf p1 p2 σ = some r) : zk_MR l yX1_toldOf (ws_ yX1_toldOf cX1_toldOf 3 (Option.some Jvm.ClassFile.FieldType.int)) zw_X1_toldOf_rm D zk_cl (zk_ty dA) (zw_X1_toldOf_vs o p1 p2) (zm_P o a dA σ) (some (zk_I r)) := by
  refine zk_startW (by decide +kernel) (Nat.le_of_ble_eq_true rfl) (fun p e s m below meth c H locs ls hx hb hr hlk hml hown hts hKX hP hS hl => ?_)
  have hl : lv_has ls 3 [(0, .ref o), (1, zk_I p1), (2, zk_I p2)] := hl
  have hK := hKX.1
  have hown : s.vm.findClass RX1 = some m.cls := hown
  have hf : zm_toldOf p1 p2 σ = some r := hf
  refine zk_iloadn hx hb dX1_toldOf_0 rfl (lv_at hl 2 rfl) ?_
  obtain ⟨hg, hf⟩ := zk_gs hf
  rcases zk_sw hf with ⟨hq0, hf⟩ | ⟨hq0, hf⟩
  · refine zk_tabIn (tgt := 36) hx hb dX1_toldOf_1 hq0 (by decide) rfl (by decide) ?_
    refine lv_aload_n hx hb dX1_toldOf_36 rfl (lv_at hl 0 rfl) ?_
    refine zm_rget hx hb hts hown hK hP 2 (by decide) q951 rfl dX1_toldOf_37 ?_
    refine zk_iloadn hx hb dX1_toldOf_40 rfl (lv_at hl 1 rfl) ?_
    refine zk_iald hx hb hK hP 2 0 rfl rfl (N := 6) ⟨by decide, by decide⟩ hf dX1_toldOf_41 (fun hf => ?_)
    exact zk_iret hx hb hr hlk (Option.some.inj hf) (fun _ _ => trivial) hS dX1_toldOf_42
  rcases zk_sw hf with ⟨hq1, hf⟩ | ⟨hq1, hf⟩
  · refine zk_tabIn (tgt := 43) hx hb dX1_toldOf_1 hq1 (by decide) rfl (by decide) ?_
    refine lv_aload_n hx hb dX1_toldOf_43 rfl (lv_at hl 0 rfl) ?_
    refine zm_rget hx hb hts hown hK hP 0 (by decide) q949 rfl dX1_toldOf_44 ?_
    refine zk_iconst hx hb dX1_toldOf_47 ?_
    refine zk_iloadn hx hb dX1_toldOf_48 rfl (lv_at hl 1 rfl) ?_
    refine zk_iadd hx hb dX1_toldOf_49 ?_
    refine zk_iald hx hb hK hP 1 0 rfl rfl (N := 3305) ⟨by decide, by decide⟩ hf dX1_toldOf_50 (fun hf => ?_)
    exact zk_iret hx hb hr hlk (Option.some.inj hf) (fun _ _ => trivial) hS dX1_toldOf_51
  rcases zk_sw hf with ⟨hq2, hf⟩ | ⟨hq2, hf⟩
  · refine zk_tabIn (tgt := 52) hx hb dX1_toldOf_1 hq2 (by decide) rfl (by decide) ?_
    refine lv_aload_n hx hb dX1_toldOf_52 rfl (lv_at hl 0 rfl) ?_
    refine zm_rget hx hb hts hown hK hP 0 (by decide) q949 rfl dX1_toldOf_53 ?_
    refine zk_bipush hx hb dX1_toldOf_56 (by decide) ?_
    refine zk_iloadn hx hb dX1_toldOf_58 rfl (lv_at hl 1 rfl) ?_
    refine zk_iadd hx hb dX1_toldOf_59 ?_
    refine zk_iald hx hb hK hP 1 0 rfl rfl (N := 3305) ⟨by decide, by decide⟩ hf dX1_toldOf_60 (fun hf => ?_)
    exact zk_iret hx hb hr hlk (Option.some.inj hf) (fun _ _ => trivial) hS dX1_toldOf_61
  rcases zk_sw hf with ⟨hq3, hf⟩ | ⟨hq3, hf⟩
  · refine zk_tabIn (tgt := 62) hx hb dX1_toldOf_1 hq3 (by decide) rfl (by decide) ?_
    refine lv_aload_n hx hb dX1_toldOf_62 rfl (lv_at hl 0 rfl) ?_
    refine zk_iconst hx hb dX1_toldOf_63 ?_
    refine zk_iloadn hx hb dX1_toldOf_64 rfl (lv_at hl 1 rfl) ?_
    obtain ⟨v1, hq, hf⟩ := zk_bs hf
    refine zk_callVR (As := [zk_I 0, zk_I p1]) (rest := []) ⟨hx, hb, hml, hown, hts⟩ (zw_X1_daresIn l 0 p1 σ _ hq) (cwV 2 hts (lw_V q1135 q1137 qs54 q88 q1138) rfl rfl rfl (by decide +kernel) ⟨Nat.le_of_ble_eq_true rfl, Nat.le_of_ble_eq_true rfl⟩) hKX hP hS (va_recv hK hP (ci := 1) (q0 := 0) rfl rfl) rfl hl.1 rfl (Nat.le_of_ble_eq_true rfl) dX1_toldOf_65 ⟨Nat.le_of_ble_eq_true rfl, Nat.le_of_ble_eq_true rfl⟩ (fun H locs hP hS => ?_)
    exact zk_iret hx hb hr hlk (Option.some.inj hf) (fun _ _ => trivial) hS dX1_toldOf_68
  rcases zk_sw hf with ⟨hq4, hf⟩ | ⟨hq4, hf⟩
  · refine zk_tabIn (tgt := 69) hx hb dX1_toldOf_1 hq4 (by decide) rfl (by decide) ?_
    refine lv_aload_n hx hb dX1_toldOf_69 rfl (lv_at hl 0 rfl) ?_
    refine zm_rget hx hb hts hown hK hP 0 (by decide) q949 rfl dX1_toldOf_70 ?_
    refine zk_bipush hx hb dX1_toldOf_73 (by decide) ?_
    refine zk_iloadn hx hb dX1_toldOf_75 rfl (lv_at hl 1 rfl) ?_
    refine zk_iadd hx hb dX1_toldOf_76 ?_
    refine zk_iald hx hb hK hP 1 0 rfl rfl (N := 3305) ⟨by decide, by decide⟩ hf dX1_toldOf_77 (fun hf => ?_)
    exact zk_iret hx hb hr hlk (Option.some.inj hf) (fun _ _ => trivial) hS dX1_toldOf_78
  refine zk_tabOut (tgt := 79) hx hb dX1_toldOf_1 hg (by omega) (by decide) ?_
  refine lv_aload_n hx hb dX1_toldOf_79 rfl (lv_at hl 0 rfl) ?_
  refine zk_iconst hx hb dX1_toldOf_80 ?_
  refine zk_iloadn hx hb dX1_toldOf_81 rfl (lv_at hl 1 rfl) ?_
  obtain ⟨v2, hq, hf⟩ := zk_bs hf
  refine zk_callVR (As := [zk_I 0, zk_I p1]) (rest := []) ⟨hx, hb, hml, hown, hts⟩ (zw_X1_farOf l 0 p1 σ _ hq) (cwV 2 hts (lw_V q1139 q1141 qs55 q88 q1142) rfl rfl rfl (by decide +kernel) ⟨Nat.le_of_ble_eq_true rfl, Nat.le_of_ble_eq_true rfl⟩) hKX hP hS (va_recv hK hP (ci := 1) (q0 := 0) rfl rfl) rfl hl.1 rfl (Nat.le_of_ble_eq_true rfl) dX1_toldOf_82 ⟨Nat.le_of_ble_eq_true rfl, Nat.le_of_ble_eq_true rfl⟩ (fun H locs hP hS => ?_)
  exact zk_iret hx hb hr hlk (Option.some.inj hf) (fun _ _ => trivial) hS dX1_toldOf_85
abbrev zw_X1_one_rm : Room := { frames := 5, cells := 0, slots := 0, locals := 119 }
abbrev zw_X1_one_vs (o : Nat) (p1 p2 : Int) : List Value := [.ref o, zk_I p1, zk_I p2]
set_option maxHeartbeats 4000000 in
set_option maxRecDepth 100000 in
theorem zw_X1_one (l : Launch) {D : va_G} {o : Nat} {a : Nat → Nat} {dA : Nat → ClassId} {A : Nat → Prop} (hD : ∀ τ, va_D A (zm_P o a dA τ)) (p1 p2 : Int) (σ : ZS) (r : Int) (σ' : ZS) (hf : zm_one p1 p2 σ = some (r, σ')) : zk_MW l yX1_one (ws_ yX1_one cX1_one 3 (Option.some Jvm.ClassFile.FieldType.int)) zw_X1_one_rm D zk_cl (zk_ty dA) A (zw_X1_one_vs o p1 p2) (zm_P o a dA σ) (zm_P o a dA σ') (some (zk_I r)) := by
  refine zk_startW (by decide +kernel) (Nat.le_of_ble_eq_true rfl) (fun p e s m below meth c H locs ls hx hb hr hlk hml hown hts hKX hP hS hl => ?_)
  have hl : lv_has ls 3 [(0, .ref o), (1, zk_I p1), (2, zk_I p2)] := hl
  have hK := hKX.1
  have hown : s.vm.findClass RX1 = some m.cls := hown
  have hf : zm_one p1 p2 σ = some (r, σ') := hf
  refine lv_aload_n hx hb dX1_one_0 rfl (lv_at hl 0 rfl) ?_
  refine zk_iloadn hx hb dX1_one_1 rfl (lv_at hl 1 rfl) ?_
  obtain ⟨v1, hq, hf⟩ := zk_bs hf
  refine zk_callVR (As := [zk_I p1]) (rest := []) ⟨hx, hb, hml, hown, hts⟩ (zw_X1_isOne l p1 σ _ hq) (cwV 1 hts (lw_V q1127 q1129 qs52 q88 q1130) rfl rfl rfl (by decide +kernel) ⟨Nat.le_of_ble_eq_true rfl, Nat.le_of_ble_eq_true rfl⟩) hKX hP hS (va_recv hK hP (ci := 1) (q0 := 0) rfl rfl) rfl hl.1 rfl (Nat.le_of_ble_eq_true rfl) dX1_one_2 ⟨Nat.le_of_ble_eq_true rfl, Nat.le_of_ble_eq_true rfl⟩ (fun H locs hP hS => ?_)
  refine zk_if_eq (tgt := 33) hx hb dX1_one_5 (by decide) hf (fun h => h) (fun hf => ?_) (fun hf => ?_)
  · refine zk_iconst hx hb dX1_one_33 ?_
    exact zk_iret hx hb hr hlk (zk_p1 hf) (zk_pB hf hP) hS dX1_one_34
  · refine zk_iloadn hx hb dX1_one_8 rfl (lv_at hl 2 rfl) ?_
    refine zk_ri2l hx hb dX1_one_9 hf (fun hf => ?_)
    refine zk_lconst (v := 0) hx hb dX1_one_10 rfl ?_
    refine zk_ldc2 hx hb 5 hown (hts _ q1026) rfl dX1_one_11 ?_
    obtain ⟨v2, hq, hf⟩ := zk_bs hf
    refine zk_callSS (As := [zk_L p2, zk_L 0, zk_L 5]) (rest := []) ⟨hx, hb, hml, hown, hts⟩ (zw_X1_in l p2 0 5 _ hq) (va_cwS 3 hts (lw_S q1027 q1028 q88 q1029) rfl rfl rfl (by decide +kernel) ⟨Nat.le_of_ble_eq_true rfl, Nat.le_of_ble_eq_true rfl⟩) hP hS rfl hl.1 rfl (Nat.le_of_ble_eq_true rfl) dX1_one_14 ⟨Nat.le_of_ble_eq_true rfl, Nat.le_of_ble_eq_true rfl⟩ (fun H locs hP hS => ?_)
    refine zk_if_eq (tgt := 33) hx hb dX1_one_17 (by decide) hf (fun h => h) (fun hf => ?_) (fun hf => ?_)
    · refine zk_iconst hx hb dX1_one_33 ?_
      exact zk_iret hx hb hr hlk (zk_p1 hf) (zk_pB hf hP) hS dX1_one_34
    · refine lv_aload_n hx hb dX1_one_20 rfl (lv_at hl 0 rfl) ?_
      refine lv_aload_n hx hb dX1_one_21 rfl (lv_at hl 0 rfl) ?_
      refine zk_iloadn hx hb dX1_one_22 rfl (lv_at hl 1 rfl) ?_
      refine zk_iloadn hx hb dX1_one_23 rfl (lv_at hl 2 rfl) ?_
      obtain ⟨v3, hq, hf⟩ := zk_bs hf
      refine zk_callVR (As := [zk_I p1, zk_I p2]) (rest := [.ref o]) ⟨hx, hb, hml, hown, hts⟩ (zw_X1_toldOf l p1 p2 σ _ hq) (cwV 2 hts (lw_V q1131 q1133 qs53 q88 q1134) rfl rfl rfl (by decide +kernel) ⟨Nat.le_of_ble_eq_true rfl, Nat.le_of_ble_eq_true rfl⟩) hKX hP hS (va_recv hK hP (ci := 1) (q0 := 0) rfl rfl) rfl hl.1 rfl (Nat.le_of_ble_eq_true rfl) dX1_one_24 ⟨Nat.le_of_ble_eq_true rfl, Nat.le_of_ble_eq_true rfl⟩ (fun H locs hP hS => ?_)
      obtain ⟨v4, s5, hq, hf⟩ := zk_b2s hf
      refine zk_callVW (As := [zk_I v3]) (rest := []) ⟨hx, hb, hml, hown, hts⟩ (zw_X1_tell l hD v3 σ _ _ hq) (cwV 1 hts (lw_V q1046 q1048 qs43 q88 q1049) rfl rfl rfl (by decide +kernel) ⟨Nat.le_of_ble_eq_true rfl, Nat.le_of_ble_eq_true rfl⟩) hKX hP hS (va_recv hK hP (ci := 1) (q0 := 0) rfl rfl) rfl hl.1 rfl (Nat.le_of_ble_eq_true rfl) dX1_one_27 ⟨Nat.le_of_ble_eq_true rfl, Nat.le_of_ble_eq_true rfl⟩ (fun H locs hP hS => ?_)
      refine lv_goto (tgt := 34) hx hb dX1_one_30 (by decide) ?_
      exact zk_iret hx hb hr hlk (zk_p1 hf) (zk_pB hf hP) hS dX1_one_34
abbrev zw_X1_isOf_rm : Room := { frames := 1, cells := 0, slots := 0, locals := 32 }
abbrev zw_X1_isOf_vs (o : Nat) (p1 p2 : Int) : List Value := [.ref o, zk_I p1, zk_I p2]
set_option maxHeartbeats 4000000 in
set_option maxRecDepth 100000 in
theorem zw_X1_isOf (l : Launch) {D : va_G} {o : Nat} {a : Nat → Nat} {dA : Nat → ClassId} (p1 p2 : Int) (σ : ZS) (r : Int) (hf : zm_isOf p1 p2 σ = some r) : zk_MR l yX1_isOf (ws_ yX1_isOf cX1_isOf 4 (Option.some Jvm.ClassFile.FieldType.boolean)) zw_X1_isOf_rm D zk_cl (zk_ty dA) (zw_X1_isOf_vs o p1 p2) (zm_P o a dA σ) (some (zk_I r)) := by
  refine zk_startW (by decide +kernel) (Nat.le_of_ble_eq_true rfl) (fun p e s m below meth c H locs ls hx hb hr hlk hml hown hts hKX hP hS hl => ?_)
  have hl : lv_has ls 4 [(0, .ref o), (1, zk_I p1), (2, zk_I p2)] := hl
  have hK := hKX.1
  have hown : s.vm.findClass RX1 = some m.cls := hown
  have hf : zm_isOf p1 p2 σ = some r := hf
  have hJ22 : ∀ (x2 x3 : Int) (H : Heap) (locs : List Loc) (ls : Array Slot), zm_isOf_j22 x2 x3 σ = some r → lv_has ls 4 [(2, zk_I x2), (3, zk_I x3)] → va_P D zk_cl (zm_P o a dA σ) H → va_S (fun _ => False) s.heap H locs → W p l e zw_X1_isOf_rm s m (zw_X1_isOf_vs o p1 p2).toArray below meth c H locs 0 0 (MQ below (zk_Q (some (zk_I r)) (fun _ => True) (fun _ => False)) (zw_X1_isOf_vs o p1 p2).toArray s 0 0 (fun _ => False)) (F0 m 22 ls []) := by
    intro x2 x3 H locs ls hf hl hP hS
    refine zk_iloadn hx hb dX1_isOf_22 rfl (lv_at hl 0 rfl) ?_
    refine zk_iconst hx hb dX1_isOf_23 ?_
    refine zk_icmp_ne (tgt := 36) hx hb dX1_isOf_24 (by decide) hf (fun h => ⟨h, by decide⟩) (fun hf => ?_) (fun hf => ?_)
    · refine zk_iconst hx hb dX1_isOf_36 ?_
      exact zk_zret hx hb hr hlk (Or.inl rfl) (Option.some.inj hf) (fun _ _ => trivial) hS dX1_isOf_37
    · refine zk_iloadn hx hb dX1_isOf_27 rfl (lv_at hl 1 rfl) ?_
      refine zk_iconst hx hb dX1_isOf_28 ?_
      refine zk_icmp_ne (tgt := 36) hx hb dX1_isOf_29 (by decide) hf (fun h => ⟨h, by decide⟩) (fun hf => ?_) (fun hf => ?_)
      · refine zk_iconst hx hb dX1_isOf_36 ?_
        exact zk_zret hx hb hr hlk (Or.inl rfl) (Option.some.inj hf) (fun _ _ => trivial) hS dX1_isOf_37
      · refine zk_iconst hx hb dX1_isOf_32 ?_
        refine lv_goto (tgt := 37) hx hb dX1_isOf_33 (by decide) ?_
        exact zk_zret hx hb hr hlk (Or.inr rfl) (Option.some.inj hf) (fun _ _ => trivial) hS dX1_isOf_37
  refine lv_aload_n hx hb dX1_isOf_0 rfl (lv_at hl 0 rfl) ?_
  refine zm_rget hx hb hts hown hK hP 2 (by decide) q951 rfl dX1_isOf_1 ?_
  refine zk_iloadn hx hb dX1_isOf_4 rfl (lv_at hl 1 rfl) ?_
  refine zk_iald hx hb hK hP 2 0 rfl rfl (N := 6) ⟨by decide, by decide⟩ hf dX1_isOf_5 (fun hf => ?_)
  refine zk_istorenN (lv' := fun x3_1 => [(3, zk_I x3_1), (0, .ref o), (1, zk_I p1), (2, zk_I p2)]) hx hb dX1_isOf_6 rfl hl (by decide) (fun _ => rfl) hf (fun x3_1 hf ls hl => ?_)
  refine zk_iloadn hx hb dX1_isOf_7 rfl (lv_at hl 0 rfl) ?_
  refine zk_iloadn hx hb dX1_isOf_8 rfl (lv_at hl 3 rfl) ?_
  refine zk_icmp_eq (tgt := 32) hx hb dX1_isOf_9 (by decide) hf (fun h => h) (fun hf => ?_) (fun hf => ?_)
  · refine zk_iconst hx hb dX1_isOf_32 ?_
    refine lv_goto (tgt := 37) hx hb dX1_isOf_33 (by decide) ?_
    exact zk_zret hx hb hr hlk (Or.inr rfl) (Option.some.inj hf) (fun _ _ => trivial) hS dX1_isOf_37
  · refine zk_iloadn hx hb dX1_isOf_12 rfl (lv_at hl 3 rfl) ?_
    refine zk_iconst hx hb dX1_isOf_13 ?_
    refine zk_icmp_ne (tgt := 22) hx hb dX1_isOf_14 (by decide) hf (fun h => ⟨h, by decide⟩) (fun hf => ?_) (fun hf => ?_)
    · exact hJ22 _ _ H locs ls hf (lv_sub hl [3, 0] rfl) hP hS
    · refine zk_iloadn hx hb dX1_isOf_17 rfl (lv_at hl 0 rfl) ?_
      refine zk_iconst hx hb dX1_isOf_18 ?_
      refine zk_icmp_eq (tgt := 32) hx hb dX1_isOf_19 (by decide) hf (fun h => ⟨h, by decide⟩) (fun hf => ?_) (fun hf => ?_)
      · refine zk_iconst hx hb dX1_isOf_32 ?_
        refine lv_goto (tgt := 37) hx hb dX1_isOf_33 (by decide) ?_
        exact zk_zret hx hb hr hlk (Or.inr rfl) (Option.some.inj hf) (fun _ _ => trivial) hS dX1_isOf_37
      · exact hJ22 _ _ H locs ls hf (lv_sub hl [3, 0] rfl) hP hS
abbrev zw_X1_lesserThan_rm : Room := { frames := 1, cells := 0, slots := 0, locals := 32 }
abbrev zw_X1_lesserThan_vs (o : Nat) (p1 : Int) : List Value := [.ref o, zk_I p1]
set_option maxHeartbeats 4000000 in
set_option maxRecDepth 100000 in
theorem zw_X1_lesserThan (l : Launch) {D : va_G} {o : Nat} {a : Nat → Nat} {dA : Nat → ClassId} (N : Nat) (p1 : Int) (σ : ZS) (r : Int) (hf : zm_lesserThan N p1 σ = some r) : zk_MR l yX1_lesserThan (ws_ yX1_lesserThan cX1_lesserThan 4 (Option.some Jvm.ClassFile.FieldType.int)) zw_X1_lesserThan_rm D zk_cl (zk_ty dA) (zw_X1_lesserThan_vs o p1) (zm_P o a dA σ) (some (zk_I r)) := by
  refine zk_startW (by decide +kernel) (Nat.le_of_ble_eq_true rfl) (fun p e s m below meth c H locs ls hx hb hr hlk hml hown hts hKX hP hS hl => ?_)
  have hl : lv_has ls 4 [(0, .ref o), (1, zk_I p1)] := hl
  have hK := hKX.1
  have hown : s.vm.findClass RX1 = some m.cls := hown
  have hf : zm_lesserThan N p1 σ = some r := hf
  have hJ39 : ∀ (x2 : Int) (H : Heap) (locs : List Loc) (ls : Array Slot), zm_lesserThan_j39 N x2 σ = some r → lv_has ls 4 [(2, zk_I x2)] → va_P D zk_cl (zm_P o a dA σ) H → va_S (fun _ => False) s.heap H locs → W p l e zw_X1_lesserThan_rm s m (zw_X1_lesserThan_vs o p1).toArray below meth c H locs 0 0 (MQ below (zk_Q (some (zk_I r)) (fun _ => True) (fun _ => False)) (zw_X1_lesserThan_vs o p1).toArray s 0 0 (fun _ => False)) (F0 m 39 ls []) := by
    intro x2 H locs ls hf hl hP hS
    refine zk_iloadn hx hb dX1_lesserThan_39 rfl (lv_at hl 0 rfl) ?_
    exact zk_iret hx hb hr hlk (Option.some.inj hf) (fun _ _ => trivial) hS dX1_lesserThan_40
  have hL4 : ∀ (n : Nat) (x1 x2 x3 : Int) (H : Heap) (locs : List Loc) (ls : Array Slot), zk_b (zk_loop (α := Int × Int) (β := Int) n (fun a => zm_lesserThan_b4 N x1 a.1 a.2 σ) (x2, x3)) (fun e => zm_lesserThan_j39 N e σ) = some r → lv_has ls 4 [(0, .ref o), (1, zk_I x1), (2, zk_I x2), (3, zk_I x3)] → va_P D zk_cl (zm_P o a dA σ) H → va_S (fun _ => False) s.heap H locs → W p l e zw_X1_lesserThan_rm s m (zw_X1_lesserThan_vs o p1).toArray below meth c H locs 0 0 (MQ below (zk_Q (some (zk_I r)) (fun _ => True) (fun _ => False)) (zw_X1_lesserThan_vs o p1).toArray s 0 0 (fun _ => False)) (F0 m 4 ls []) := by
    intro n
    induction n with
    | zero => intro x1 x2 x3 H locs ls hf; exact (zk_l0 hf).elim
    | succ n ih4 =>
      intro x1 x2 x3 H locs ls hf hl hP hS
      obtain ⟨c4, hf, hc4⟩ := zk_ls hf
      refine zk_iloadn hx hb dX1_lesserThan_4 rfl (lv_at hl 3 rfl) ?_
      refine lv_aload_n hx hb dX1_lesserThan_5 rfl (lv_at hl 0 rfl) ?_
      refine zm_rget hx hb hts hown hK hP 1 (by decide) q950 rfl dX1_lesserThan_6 ?_
      refine zk_icmp_ge (tgt := 39) hx hb dX1_lesserThan_9 (by decide) hf (fun h => h) (fun hf => ?_) (fun hf => ?_)
      · obtain rfl := zk_so hf
        exact hJ39 _ H locs ls hc4 (lv_sub hl [2] rfl) hP hS
      · refine zk_iloadn hx hb dX1_lesserThan_12 rfl (lv_at hl 2 rfl) ?_
        refine lv_aload_n hx hb dX1_lesserThan_13 rfl (lv_at hl 0 rfl) ?_
        refine zm_rget hx hb hts hown hK hP 0 (by decide) q949 rfl dX1_lesserThan_14 ?_
        refine zk_bipush hx hb dX1_lesserThan_17 (by decide) ?_
        refine zk_iloadn hx hb dX1_lesserThan_19 rfl (lv_at hl 3 rfl) ?_
        refine zk_iadd hx hb dX1_lesserThan_20 ?_
        refine zk_iald hx hb hK hP 1 0 rfl rfl (N := 3305) ⟨by decide, by decide⟩ hf dX1_lesserThan_21 (fun hf => ?_)
        refine zk_iloadn hx hb dX1_lesserThan_22 rfl (lv_at hl 1 rfl) ?_
        obtain ⟨hg, hf⟩ := zk_gs hf
        have hV : W p l e zw_X1_lesserThan_rm s m (zw_X1_lesserThan_vs o p1).toArray below meth c H locs 0 0 (MQ below (zk_Q (some (zk_I r)) (fun _ => True) (fun _ => False)) (zw_X1_lesserThan_vs o p1).toArray s 0 0 (fun _ => False)) (F0 m 31 ls [zk_I (if x1 ≤ (σ 0 (9 + x3)) then 0 else 1), zk_I x2]) := by
          refine zk_iadd hx hb dX1_lesserThan_31 ?_
          refine zk_istorenN (lv' := fun x2_1 => [(2, zk_I x2_1), (0, .ref o), (1, zk_I x1), (3, zk_I x3)]) hx hb dX1_lesserThan_32 rfl hl (by decide) (fun _ => rfl) hf (fun x2_1 hf ls hl => ?_)
          refine zk_iincN (lv' := fun x3_2 => [(3, zk_I x3_2), (2, zk_I x2_1), (0, .ref o), (1, zk_I x1)]) hx hb dX1_lesserThan_33 hl (k := 3) rfl (by decide) (fun _ => rfl) hf (fun x3_2 hf ls hl => ?_)
          refine lv_goto (tgt := 4) hx hb dX1_lesserThan_36 (by decide) ?_
          obtain rfl := zk_so hf
          exact ih4 _ _ _ H locs ls hc4 (lv_sub hl [2, 3, 1, 0] rfl) hP hS
        refine zk_icmp_geV (tgt := 30) hx hb dX1_lesserThan_23 (by decide) ((fun h => h) hg) (fun hc => ?_) (fun hc => ?_)
        · rw [if_pos hc] at hV
          refine zk_iconst hx hb dX1_lesserThan_30 ?_
          exact hV
        · rw [if_neg hc] at hV
          refine zk_iconst hx hb dX1_lesserThan_26 ?_
          refine lv_goto (tgt := 31) hx hb dX1_lesserThan_27 (by decide) ?_
          exact hV
  refine zk_iconst hx hb dX1_lesserThan_0 ?_
  refine lv_istore_n (lv' := [(2, zk_I 0), (0, .ref o), (1, zk_I p1)]) hx hb dX1_lesserThan_1 rfl hl (by decide) rfl (fun ls hl => ?_)
  refine zk_iconst hx hb dX1_lesserThan_2 ?_
  refine lv_istore_n (lv' := [(3, zk_I 0), (2, zk_I 0), (0, .ref o), (1, zk_I p1)]) hx hb dX1_lesserThan_3 rfl hl (by decide) rfl (fun ls hl => ?_)
  exact hL4 N _ _ _ H locs ls hf (lv_sub hl [2, 3, 1, 0] rfl) hP hS
abbrev zw_X1_mark_rm : Room := { frames := 3, cells := 0, slots := 0, locals := 78 }
abbrev zw_X1_mark_vs (o : Nat) (p1 p2 : Int) : List Value := [.ref o, zk_I p1, zk_I p2]
set_option maxHeartbeats 4000000 in
set_option maxRecDepth 100000 in
theorem zw_X1_mark (l : Launch) {D : va_G} {o : Nat} {a : Nat → Nat} {dA : Nat → ClassId} {A : Nat → Prop} (hD : ∀ τ, va_D A (zm_P o a dA τ)) (N : Nat) (p1 p2 : Int) (σ : ZS) (r : Int) (σ' : ZS) (hf : zm_mark N p1 p2 σ = some (r, σ')) : zk_MW l yX1_mark (ws_ yX1_mark cX1_mark 4 (Option.some Jvm.ClassFile.FieldType.int)) zw_X1_mark_rm D zk_cl (zk_ty dA) A (zw_X1_mark_vs o p1 p2) (zm_P o a dA σ) (zm_P o a dA σ') (some (zk_I r)) := by
  refine zk_startW (by decide +kernel) (Nat.le_of_ble_eq_true rfl) (fun p e s m below meth c H locs ls hx hb hr hlk hml hown hts hKX hP hS hl => ?_)
  have hl : lv_has ls 4 [(0, .ref o), (1, zk_I p1), (2, zk_I p2)] := hl
  have hK := hKX.1
  have hown : s.vm.findClass RX1 = some m.cls := hown
  have hf : zm_mark N p1 p2 σ = some (r, σ') := hf
  refine lv_aload_n hx hb dX1_mark_0 rfl (lv_at hl 0 rfl) ?_
  refine zk_iloadn hx hb dX1_mark_1 rfl (lv_at hl 1 rfl) ?_
  obtain ⟨v1, hq, hf⟩ := zk_bs hf
  refine zk_callVR (As := [zk_I p1]) (rest := []) ⟨hx, hb, hml, hown, hts⟩ (zw_X1_isOne l p1 σ _ hq) (cwV 1 hts (lw_V q1127 q1129 qs52 q88 q1130) rfl rfl rfl (by decide +kernel) ⟨Nat.le_of_ble_eq_true rfl, Nat.le_of_ble_eq_true rfl⟩) hKX hP hS (va_recv hK hP (ci := 1) (q0 := 0) rfl rfl) rfl hl.1 rfl (Nat.le_of_ble_eq_true rfl) dX1_mark_2 ⟨Nat.le_of_ble_eq_true rfl, Nat.le_of_ble_eq_true rfl⟩ (fun H locs hP hS => ?_)
  refine zk_if_eq (tgt := 20) hx hb dX1_mark_5 (by decide) hf (fun h => h) (fun hf => ?_) (fun hf => ?_)
  · refine zk_iconst hx hb dX1_mark_20 ?_
    exact zk_iret hx hb hr hlk (zk_p1 hf) (zk_pB hf hP) hS dX1_mark_21
  · refine zk_iloadn hx hb dX1_mark_8 rfl (lv_at hl 2 rfl) ?_
    refine zk_ri2l hx hb dX1_mark_9 hf (fun hf => ?_)
    refine zk_lconst (v := 1) hx hb dX1_mark_10 rfl ?_
    refine zk_ldc2 hx hb 5 hown (hts _ q1026) rfl dX1_mark_11 ?_
    obtain ⟨v2, hq, hf⟩ := zk_bs hf
    refine zk_callSS (As := [zk_L p2, zk_L 1, zk_L 5]) (rest := []) ⟨hx, hb, hml, hown, hts⟩ (zw_X1_in l p2 1 5 _ hq) (va_cwS 3 hts (lw_S q1027 q1028 q88 q1029) rfl rfl rfl (by decide +kernel) ⟨Nat.le_of_ble_eq_true rfl, Nat.le_of_ble_eq_true rfl⟩) hP hS rfl hl.1 rfl (Nat.le_of_ble_eq_true rfl) dX1_mark_14 ⟨Nat.le_of_ble_eq_true rfl, Nat.le_of_ble_eq_true rfl⟩ (fun H locs hP hS => ?_)
    refine zk_if_ne (tgt := 22) hx hb dX1_mark_17 (by decide) hf (fun h => h) (fun hf => ?_) (fun hf => ?_)
    · refine lv_aload_n hx hb dX1_mark_22 rfl (lv_at hl 0 rfl) ?_
      refine zk_iloadn hx hb dX1_mark_23 rfl (lv_at hl 1 rfl) ?_
      refine zk_iloadn hx hb dX1_mark_24 rfl (lv_at hl 2 rfl) ?_
      obtain ⟨v3, hq, hf⟩ := zk_bs hf
      refine zk_callVR (As := [zk_I p1, zk_I p2]) (rest := []) ⟨hx, hb, hml, hown, hts⟩ (zw_X1_isOf l p1 p2 σ _ hq) (cwV 2 hts (lw_V q1153 q1155 qs56 q88 q1156) rfl rfl rfl (by decide +kernel) ⟨Nat.le_of_ble_eq_true rfl, Nat.le_of_ble_eq_true rfl⟩) hKX hP hS (va_recv hK hP (ci := 1) (q0 := 0) rfl rfl) rfl hl.1 rfl (Nat.le_of_ble_eq_true rfl) dX1_mark_25 ⟨Nat.le_of_ble_eq_true rfl, Nat.le_of_ble_eq_true rfl⟩ (fun H locs hP hS => ?_)
      refine zk_if_ne (tgt := 37) hx hb dX1_mark_28 (by decide) hf (fun h => h) (fun hf => ?_) (fun hf => ?_)
      · refine lv_aload_n hx hb dX1_mark_37 rfl (lv_at hl 0 rfl) ?_
        refine zm_rget hx hb hts hown hK hP 0 (by decide) q949 rfl dX1_mark_38 ?_
        refine zk_bipush hx hb dX1_mark_41 (by decide) ?_
        refine zk_iloadn hx hb dX1_mark_43 rfl (lv_at hl 1 rfl) ?_
        refine zk_iadd hx hb dX1_mark_44 ?_
        refine zk_iald hx hb hK hP 1 0 rfl rfl (N := 3305) ⟨by decide, by decide⟩ hf dX1_mark_45 (fun hf => ?_)
        refine zk_istorenN (lv' := fun x3_4 => [(3, zk_I x3_4), (0, .ref o), (1, zk_I p1), (2, zk_I p2)]) hx hb dX1_mark_46 rfl hl (by decide) (fun _ => rfl) hf (fun x3_4 hf ls hl => ?_)
        refine zk_iloadn hx hb dX1_mark_47 rfl (lv_at hl 3 rfl) ?_
        obtain ⟨hg, hf⟩ := zk_gs hf
        rcases zk_sw hf with ⟨hq0, hf⟩ | ⟨hq0, hf⟩
        · refine zk_tabIn (tgt := 80) hx hb dX1_mark_48 hq0 (by decide) rfl (by decide) ?_
          refine zk_iconst hx hb dX1_mark_80 ?_
          refine zk_iloadn hx hb dX1_mark_81 rfl (lv_at hl 0 rfl) ?_
          refine lv_aload_n hx hb dX1_mark_82 rfl (lv_at hl 1 rfl) ?_
          refine zm_rget hx hb hts hown hK hP 0 (by decide) q949 rfl dX1_mark_83 ?_
          refine zk_iconst hx hb dX1_mark_86 ?_
          refine zk_iald hx hb hK hP 1 0 rfl rfl (N := 3305) ⟨by decide, by decide⟩ hf dX1_mark_87 (fun hf => ?_)
          refine zk_iconst hx hb dX1_mark_88 ?_
          refine zk_iadd hx hb dX1_mark_89 ?_
          refine zk_iconst hx hb dX1_mark_90 ?_
          obtain ⟨v5, hq, hf⟩ := zk_bs hf
          refine zk_callSS (As := [zk_I 1, zk_I x3_4, zk_I (σ 0 1 + 1), zk_I 0]) (rest := []) ⟨hx, hb, hml, hown, hts⟩ (zw_X1_daresBy l 1 x3_4 (σ 0 1 + 1) 0 _ hq) (va_cwS 4 hts (lw_S q1146 q1147 q88 q1148) rfl rfl rfl (by decide +kernel) ⟨Nat.le_of_ble_eq_true rfl, Nat.le_of_ble_eq_true rfl⟩) hP hS rfl hl.1 rfl (Nat.le_of_ble_eq_true rfl) dX1_mark_91 ⟨Nat.le_of_ble_eq_true rfl, Nat.le_of_ble_eq_true rfl⟩ (fun H locs hP hS => ?_)
          exact zk_iret hx hb hr hlk (zk_p1 hf) (zk_pB hf hP) hS dX1_mark_94
        rcases zk_sw hf with ⟨hq1, hf⟩ | ⟨hq1, hf⟩
        · refine zk_tabIn (tgt := 95) hx hb dX1_mark_48 hq1 (by decide) rfl (by decide) ?_
          refine zk_iloadn hx hb dX1_mark_95 rfl (lv_at hl 0 rfl) ?_
          refine zk_iconst hx hb dX1_mark_96 ?_
          obtain ⟨hg, hf⟩ := zk_gs hf
          have hV : W p l e zw_X1_mark_rm s m (zw_X1_mark_vs o p1 p2).toArray below meth c H locs 0 0 (MQ below (zk_Q (some (zk_I r)) (fun t => va_P D zk_cl (zm_P o a dA σ') t.heap) A) (zw_X1_mark_vs o p1 p2).toArray s 0 0 A) (F0 m 107 ls [zk_I (if 5 ≤ x3_4 then 0 else 5 - x3_4)]) := by
            exact zk_iret hx hb hr hlk (zk_p1 hf) (zk_pB hf hP) hS dX1_mark_107
          refine zk_icmp_geV (tgt := 106) hx hb dX1_mark_97 (by decide) ((fun h => ⟨h, by decide⟩) hg) (fun hc => ?_) (fun hc => ?_)
          · rw [if_pos hc] at hV
            refine zk_iconst hx hb dX1_mark_106 ?_
            exact hV
          · rw [if_neg hc] at hV
            refine zk_iconst hx hb dX1_mark_100 ?_
            refine zk_iloadn hx hb dX1_mark_101 rfl (lv_at hl 0 rfl) ?_
            refine zk_isub hx hb dX1_mark_102 ?_
            refine lv_goto (tgt := 107) hx hb dX1_mark_103 (by decide) ?_
            exact hV
        rcases zk_sw hf with ⟨hq2, hf⟩ | ⟨hq2, hf⟩
        · refine zk_tabIn (tgt := 108) hx hb dX1_mark_48 hq2 (by decide) rfl (by decide) ?_
          refine lv_aload_n hx hb dX1_mark_108 rfl (lv_at hl 1 rfl) ?_
          refine zk_iloadn hx hb dX1_mark_109 rfl (lv_at hl 0 rfl) ?_
          obtain ⟨v6, hq, hf⟩ := zk_bs hf
          refine zk_callVR (As := [zk_I x3_4]) (rest := []) ⟨hx, hb, hml, hown, hts⟩ (zw_X1_lesserThan l N x3_4 σ _ hq) (cwV 1 hts (lw_V q1157 q1159 qs57 q88 q1160) rfl rfl rfl (by decide +kernel) ⟨Nat.le_of_ble_eq_true rfl, Nat.le_of_ble_eq_true rfl⟩) hKX hP hS (va_recv hK hP (ci := 1) (q0 := 0) rfl rfl) rfl hl.1 rfl (Nat.le_of_ble_eq_true rfl) dX1_mark_110 ⟨Nat.le_of_ble_eq_true rfl, Nat.le_of_ble_eq_true rfl⟩ (fun H locs hP hS => ?_)
          exact zk_iret hx hb hr hlk (zk_p1 hf) (zk_pB hf hP) hS dX1_mark_113
        rcases zk_sw hf with ⟨hq3, hf⟩ | ⟨hq3, hf⟩
        · refine zk_tabIn (tgt := 114) hx hb dX1_mark_48 hq3 (by decide) rfl (by decide) ?_
          refine zk_iconst hx hb dX1_mark_114 ?_
          refine zk_iconst hx hb dX1_mark_115 ?_
          refine zk_iconst hx hb dX1_mark_116 ?_
          refine lv_aload_n hx hb dX1_mark_117 rfl (lv_at hl 1 rfl) ?_
          refine zk_iconst hx hb dX1_mark_118 ?_
          refine zk_iloadn hx hb dX1_mark_119 rfl (lv_at hl 2 rfl) ?_
          obtain ⟨v7, hq, hf⟩ := zk_bs hf
          refine zk_callVR (As := [zk_I 0, zk_I p1]) (rest := [zk_I 0, zk_I 0, zk_I 4]) ⟨hx, hb, hml, hown, hts⟩ (zw_X1_farOf l 0 p1 σ _ hq) (cwV 2 hts (lw_V q1139 q1141 qs55 q88 q1142) rfl rfl rfl (by decide +kernel) ⟨Nat.le_of_ble_eq_true rfl, Nat.le_of_ble_eq_true rfl⟩) hKX hP hS (va_recv hK hP (ci := 1) (q0 := 0) rfl rfl) rfl hl.1 rfl (Nat.le_of_ble_eq_true rfl) dX1_mark_120 ⟨Nat.le_of_ble_eq_true rfl, Nat.le_of_ble_eq_true rfl⟩ (fun H locs hP hS => ?_)
          obtain ⟨v8, hq, hf⟩ := zk_bs hf
          refine zk_callSS (As := [zk_I 4, zk_I 0, zk_I 0, zk_I v7]) (rest := []) ⟨hx, hb, hml, hown, hts⟩ (zw_X1_daresBy l 4 0 0 v7 _ hq) (va_cwS 4 hts (lw_S q1146 q1147 q88 q1148) rfl rfl rfl (by decide +kernel) ⟨Nat.le_of_ble_eq_true rfl, Nat.le_of_ble_eq_true rfl⟩) hP hS rfl hl.1 rfl (Nat.le_of_ble_eq_true rfl) dX1_mark_123 ⟨Nat.le_of_ble_eq_true rfl, Nat.le_of_ble_eq_true rfl⟩ (fun H locs hP hS => ?_)
          exact zk_iret hx hb hr hlk (zk_p1 hf) (zk_pB hf hP) hS dX1_mark_126
        refine zk_tabOut (tgt := 127) hx hb dX1_mark_48 hg (by omega) (by decide) ?_
        refine zk_iconst hx hb dX1_mark_127 ?_
        refine zk_iloadn hx hb dX1_mark_128 rfl (lv_at hl 0 rfl) ?_
        refine zk_iconst hx hb dX1_mark_129 ?_
        refine zk_iconst hx hb dX1_mark_130 ?_
        obtain ⟨v9, hq, hf⟩ := zk_bs hf
        refine zk_callSS (As := [zk_I 2, zk_I x3_4, zk_I 0, zk_I 0]) (rest := []) ⟨hx, hb, hml, hown, hts⟩ (zw_X1_daresBy l 2 x3_4 0 0 _ hq) (va_cwS 4 hts (lw_S q1146 q1147 q88 q1148) rfl rfl rfl (by decide +kernel) ⟨Nat.le_of_ble_eq_true rfl, Nat.le_of_ble_eq_true rfl⟩) hP hS rfl hl.1 rfl (Nat.le_of_ble_eq_true rfl) dX1_mark_131 ⟨Nat.le_of_ble_eq_true rfl, Nat.le_of_ble_eq_true rfl⟩ (fun H locs hP hS => ?_)
        exact zk_iret hx hb hr hlk (zk_p1 hf) (zk_pB hf hP) hS dX1_mark_134
      · refine lv_aload_n hx hb dX1_mark_31 rfl (lv_at hl 0 rfl) ?_
        refine zk_iconst hx hb dX1_mark_32 ?_
        obtain ⟨v10, s11, hq, hf⟩ := zk_b2s hf
        refine zk_callVW (As := [zk_I 3]) (rest := []) ⟨hx, hb, hml, hown, hts⟩ (zw_X1_find l hD 3 σ _ _ hq) (cwV 1 hts (lw_V q1030 q1032 qs40 q88 q1033) rfl rfl rfl (by decide +kernel) ⟨Nat.le_of_ble_eq_true rfl, Nat.le_of_ble_eq_true rfl⟩) hKX hP hS (va_recv hK hP (ci := 1) (q0 := 0) rfl rfl) rfl hl.1 rfl (Nat.le_of_ble_eq_true rfl) dX1_mark_33 ⟨Nat.le_of_ble_eq_true rfl, Nat.le_of_ble_eq_true rfl⟩ (fun H locs hP hS => ?_)
        exact zk_iret hx hb hr hlk (zk_p1 hf) (zk_pB hf hP) hS dX1_mark_36
    · refine zk_iconst hx hb dX1_mark_20 ?_
      exact zk_iret hx hb hr hlk (zk_p1 hf) (zk_pB hf hP) hS dX1_mark_21
abbrev zw_X1_keepPast_rm : Room := { frames := 1, cells := 0, slots := 0, locals := 32 }
abbrev zw_X1_keepPast_vs (o : Nat) : List Value := [.ref o]
set_option maxHeartbeats 4000000 in
set_option maxRecDepth 100000 in
theorem zw_X1_keepPast (l : Launch) {D : va_G} {o : Nat} {a : Nat → Nat} {dA : Nat → ClassId} {A : Nat → Prop} (hD : ∀ τ, va_D A (zm_P o a dA τ)) (N : Nat) (σ : ZS) (r : Int) (σ' : ZS) (hf : zm_keepPast N  σ = some (r, σ')) : zk_MW l yX1_keepPast (ws_ yX1_keepPast cX1_keepPast 2 (Option.none : Option Jvm.ClassFile.FieldType)) zw_X1_keepPast_rm D zk_cl (zk_ty dA) A (zw_X1_keepPast_vs o) (zm_P o a dA σ) (zm_P o a dA σ') none := by
  refine zk_startW (by decide +kernel) (Nat.le_of_ble_eq_true rfl) (fun p e s m below meth c H locs ls hx hb hr hlk hml hown hts hKX hP hS hl => ?_)
  have hl : lv_has ls 2 [(0, .ref o)] := hl
  have hK := hKX.1
  have hown : s.vm.findClass RX1 = some m.cls := hown
  have hf : zm_keepPast N  σ = some (r, σ') := hf
  have hJ41 : ∀ (s0 : ZS) (H : Heap) (locs : List Loc) (ls : Array Slot), zm_keepPast_j41 N  s0 = some (r, σ') → lv_has ls 2 [(0, .ref o)] → va_P D zk_cl (zm_P o a dA s0) H → va_S A s.heap H locs → W p l e zw_X1_keepPast_rm s m (zw_X1_keepPast_vs o).toArray below meth c H locs 0 0 (MQ below (zk_Q none (fun t => va_P D zk_cl (zm_P o a dA σ') t.heap) A) (zw_X1_keepPast_vs o).toArray s 0 0 A) (F0 m 41 ls []) := by
    intro s0 H locs ls hf hl hP hS
    refine lv_aload_n hx hb dX1_keepPast_41 rfl (lv_at hl 0 rfl) ?_
    refine zm_rget hx hb hts hown hK hP 0 (by decide) q949 rfl dX1_keepPast_42 ?_
    refine zk_iconst hx hb dX1_keepPast_45 ?_
    refine lv_dup2_11 hx hb dX1_keepPast_46 rfl rfl ?_
    refine zk_iald hx hb hK hP 1 0 rfl rfl (N := 3305) ⟨by decide, by decide⟩ hf dX1_keepPast_47 (fun hf => ?_)
    refine zk_iconst hx hb dX1_keepPast_48 ?_
    refine zk_iadd hx hb dX1_keepPast_49 ?_
    refine zk_iastN hx hb hK hP hD hS 1 0 0 rfl rfl (N := 3305) ⟨by decide, by decide⟩ (zm_t0 _ _ _) hf dX1_keepPast_50 (fun s3 H locs hf hP hS => ?_)
    exact zk_vret hx hb hr hlk (zk_pB hf hP) hS dX1_keepPast_51
  have hL2 : ∀ (n : Nat) (x1 : Int) (s0 : ZS) (H : Heap) (locs : List Loc) (ls : Array Slot), zk_b (zk_loop (α := Int × ZS) (β := ZS) n (fun a => zm_keepPast_b2 N a.1 a.2) (x1, s0)) (fun e => zm_keepPast_j41 N e) = some (r, σ') → lv_has ls 2 [(0, .ref o), (1, zk_I x1)] → va_P D zk_cl (zm_P o a dA s0) H → va_S A s.heap H locs → W p l e zw_X1_keepPast_rm s m (zw_X1_keepPast_vs o).toArray below meth c H locs 0 0 (MQ below (zk_Q none (fun t => va_P D zk_cl (zm_P o a dA σ') t.heap) A) (zw_X1_keepPast_vs o).toArray s 0 0 A) (F0 m 2 ls []) := by
    intro n
    induction n with
    | zero => intro x1 s0 H locs ls hf; exact (zk_l0 hf).elim
    | succ n ih2 =>
      intro x1 s0 H locs ls hf hl hP hS
      obtain ⟨c2, hf, hc2⟩ := zk_ls hf
      refine zk_iloadn hx hb dX1_keepPast_2 rfl (lv_at hl 1 rfl) ?_
      refine zk_bipush hx hb dX1_keepPast_3 (by decide) ?_
      refine zk_icmp_ge (tgt := 41) hx hb dX1_keepPast_5 (by decide) hf (fun h => ⟨h, by decide⟩) (fun hf => ?_) (fun hf => ?_)
      · obtain rfl := zk_so hf
        exact hJ41 _ H locs ls hc2 (lv_sub hl [0] rfl) hP hS
      · refine lv_aload_n hx hb dX1_keepPast_8 rfl (lv_at hl 0 rfl) ?_
        refine zm_rget hx hb hts hown hK hP 0 (by decide) q949 rfl dX1_keepPast_9 ?_
        refine zk_bipush hx hb dX1_keepPast_12 (by decide) ?_
        refine zk_bipush hx hb dX1_keepPast_14 (by decide) ?_
        refine lv_aload_n hx hb dX1_keepPast_16 rfl (lv_at hl 0 rfl) ?_
        refine zm_rget hx hb hts hown hK hP 0 (by decide) q949 rfl dX1_keepPast_17 ?_
        refine zk_iconst hx hb dX1_keepPast_20 ?_
        refine zk_iald hx hb hK hP 1 0 rfl rfl (N := 3305) ⟨by decide, by decide⟩ hf dX1_keepPast_21 (fun hf => ?_)
        refine zk_imul hx hb dX1_keepPast_22 ?_
        refine zk_iadd hx hb dX1_keepPast_23 ?_
        refine zk_iloadn hx hb dX1_keepPast_24 rfl (lv_at hl 1 rfl) ?_
        refine zk_iadd hx hb dX1_keepPast_25 ?_
        refine lv_aload_n hx hb dX1_keepPast_26 rfl (lv_at hl 0 rfl) ?_
        refine zm_rget hx hb hts hown hK hP 0 (by decide) q949 rfl dX1_keepPast_27 ?_
        refine zk_iconst hx hb dX1_keepPast_30 ?_
        refine zk_iloadn hx hb dX1_keepPast_31 rfl (lv_at hl 1 rfl) ?_
        refine zk_iadd hx hb dX1_keepPast_32 ?_
        refine zk_iald hx hb hK hP 1 0 rfl rfl (N := 3305) ⟨by decide, by decide⟩ hf dX1_keepPast_33 (fun hf => ?_)
        refine zk_iastN hx hb hK hP hD hS 1 0 0 rfl rfl (N := 3305) ⟨by decide, by decide⟩ (zm_t0 _ _ _) hf dX1_keepPast_34 (fun s1 H locs hf hP hS => ?_)
        refine zk_iincN (lv' := fun x1_2 => [(1, zk_I x1_2), (0, .ref o)]) hx hb dX1_keepPast_35 hl (k := 1) rfl (by decide) (fun _ => rfl) hf (fun x1_2 hf ls hl => ?_)
        refine lv_goto (tgt := 2) hx hb dX1_keepPast_38 (by decide) ?_
        obtain rfl := zk_so hf
        exact ih2 _ _ H locs ls hc2 (lv_sub hl [1, 0] rfl) hP hS
  refine zk_iconst hx hb dX1_keepPast_0 ?_
  refine lv_istore_n (lv' := [(1, zk_I 0), (0, .ref o)]) hx hb dX1_keepPast_1 rfl hl (by decide) rfl (fun ls hl => ?_)
  exact hL2 N _ _ H locs ls hf (lv_sub hl [1, 0] rfl) hP hS
abbrev zw_X1_has_rm : Room := { frames := 1, cells := 0, slots := 0, locals := 32 }
abbrev zw_X1_has_vs (p0 p1 : Int) : List Value := [zk_I p0, zk_I p1]
set_option maxHeartbeats 4000000 in
set_option maxRecDepth 100000 in
theorem zw_X1_has (l : Launch) (p0 p1 : Int) (r : Int) (hf : zm_has p0 p1 = some r) : zk_MS l yX1_has (ws_ yX1_has cX1_has 2 (Option.some Jvm.ClassFile.FieldType.boolean)) zw_X1_has_rm (zw_X1_has_vs p0 p1) (some (zk_I r)) := by
  refine zk_startS (by decide +kernel) (Nat.le_of_ble_eq_true rfl) (fun p e s m below meth c H locs ls hx hb hr hlk hml hown hts hS hl => ?_)
  have hl : lv_has ls 2 [(0, zk_I p0), (1, zk_I p1)] := hl
  have hown : s.vm.findClass RX1 = some m.cls := hown
  have hf : zm_has p0 p1 = some r := hf
  refine zk_iloadn hx hb dX1_has_0 rfl (lv_at hl 0 rfl) ?_
  refine zk_iloadn hx hb dX1_has_1 rfl (lv_at hl 1 rfl) ?_
  refine zk_rishr hx hb dX1_has_2 hf (fun hf => ?_)
  refine zk_iconst hx hb dX1_has_3 ?_
  refine zk_riand hx hb dX1_has_4 ?_
  refine zk_iconst hx hb dX1_has_5 ?_
  obtain ⟨hg, hf⟩ := zk_gs hf
  have hV : W p l e zw_X1_has_rm s m (zw_X1_has_vs p0 p1).toArray below meth c H locs 0 0 (MQ below (zk_Q (some (zk_I r)) (fun _ => True) (fun _ => False)) (zw_X1_has_vs p0 p1).toArray s 0 0 (fun _ => False)) (F0 m 14 ls [zk_I (if (zk_and (p0 / 2 ^ p1.toNat) 1) = 1 then 1 else 0)]) := by
    exact zk_zret hx hb hr hlk (zk_01 (by decide) (by decide)) (Option.some.inj hf) (fun _ _ => trivial) hS dX1_has_14
  refine zk_icmp_neV (tgt := 13) hx hb dX1_has_6 (by decide) ((fun h => ⟨h, by decide⟩) hg) (fun hc => ?_) (fun hc => ?_)
  · rw [if_neg hc] at hV
    refine zk_iconst hx hb dX1_has_13 ?_
    exact hV
  · rw [if_pos hc] at hV
    refine zk_iconst hx hb dX1_has_9 ?_
    refine lv_goto (tgt := 14) hx hb dX1_has_10 (by decide) ?_
    exact hV
abbrev zw_X1_boldest_rm : Room := { frames := 4, cells := 0, slots := 0, locals := 97 }
abbrev zw_X1_boldest_vs (o : Nat) (p1 p2 : Int) : List Value := [.ref o, zk_I p1, zk_I p2]
set_option maxHeartbeats 4000000 in
set_option maxRecDepth 100000 in
theorem zw_X1_boldest (l : Launch) {D : va_G} {o : Nat} {a : Nat → Nat} {dA : Nat → ClassId} (N : Nat) (p1 p2 : Int) (σ : ZS) (r : Int) (hf : zm_boldest N p1 p2 σ = some r) : zk_MR l yX1_boldest (ws_ yX1_boldest cX1_boldest 8 (Option.some Jvm.ClassFile.FieldType.int)) zw_X1_boldest_rm D zk_cl (zk_ty dA) (zw_X1_boldest_vs o p1 p2) (zm_P o a dA σ) (some (zk_I r)) := by
  refine zk_startW (by decide +kernel) (Nat.le_of_ble_eq_true rfl) (fun p e s m below meth c H locs ls hx hb hr hlk hml hown hts hKX hP hS hl => ?_)
  have hl : lv_has ls 8 [(0, .ref o), (1, zk_I p1), (2, zk_I p2)] := hl
  have hK := hKX.1
  have hown : s.vm.findClass RX1 = some m.cls := hown
  have hf : zm_boldest N p1 p2 σ = some r := hf
  have hJ115 : ∀ (x3 : Int) (H : Heap) (locs : List Loc) (ls : Array Slot), zm_boldest_j115 N x3 σ = some r → lv_has ls 8 [(3, zk_I x3)] → va_P D zk_cl (zm_P o a dA σ) H → va_S (fun _ => False) s.heap H locs → W p l e zw_X1_boldest_rm s m (zw_X1_boldest_vs o p1 p2).toArray below meth c H locs 0 0 (MQ below (zk_Q (some (zk_I r)) (fun _ => True) (fun _ => False)) (zw_X1_boldest_vs o p1 p2).toArray s 0 0 (fun _ => False)) (F0 m 115 ls []) := by
    intro x3 H locs ls hf hl hP hS
    refine zk_iloadn hx hb dX1_boldest_115 rfl (lv_at hl 0 rfl) ?_
    exact zk_iret hx hb hr hlk (Option.some.inj hf) (fun _ _ => trivial) hS dX1_boldest_116
  have hL9 : ∀ (n : Nat) (x1 x2 x3 x4 x5 : Int) (H : Heap) (locs : List Loc) (ls : Array Slot), zk_b (zk_loop (α := Int × Int × Int) (β := Int) n (fun a => zm_boldest_b9 N x1 x2 a.1 a.2.1 a.2.2 σ) (x3, x4, x5)) (fun e => zm_boldest_j115 N e σ) = some r → lv_has ls 8 [(0, .ref o), (1, zk_I x1), (2, zk_I x2), (3, zk_I x3), (4, zk_I x4), (5, zk_I x5)] → va_P D zk_cl (zm_P o a dA σ) H → va_S (fun _ => False) s.heap H locs → W p l e zw_X1_boldest_rm s m (zw_X1_boldest_vs o p1 p2).toArray below meth c H locs 0 0 (MQ below (zk_Q (some (zk_I r)) (fun _ => True) (fun _ => False)) (zw_X1_boldest_vs o p1 p2).toArray s 0 0 (fun _ => False)) (F0 m 9 ls []) := by
    intro n
    induction n with
    | zero => intro x1 x2 x3 x4 x5 H locs ls hf; exact (zk_l0 hf).elim
    | succ n ih9 =>
      intro x1 x2 x3 x4 x5 H locs ls hf hl hP hS
      obtain ⟨c9, hf, hc9⟩ := zk_ls hf
      have hJ81 : ∀ (x3 x4 x5 x6 y0 : Int) (H : Heap) (locs : List Loc) (ls : Array Slot), zm_boldest_j81 N x1 x2 x3 x4 x5 x6 y0 σ = some c9 → lv_has ls 8 [(0, .ref o), (1, zk_I x1), (2, zk_I x2), (3, zk_I x3), (4, zk_I x4), (5, zk_I x5), (6, zk_I x6)] → va_P D zk_cl (zm_P o a dA σ) H → va_S (fun _ => False) s.heap H locs → W p l e zw_X1_boldest_rm s m (zw_X1_boldest_vs o p1 p2).toArray below meth c H locs 0 0 (MQ below (zk_Q (some (zk_I r)) (fun _ => True) (fun _ => False)) (zw_X1_boldest_vs o p1 p2).toArray s 0 0 (fun _ => False)) (F0 m 81 ls [zk_I y0]) := by
        intro x3 x4 x5 x6 y0 H locs ls hf hl hP hS
        refine lv_istore (lv' := [(7, zk_I y0), (0, .ref o), (1, zk_I x1), (2, zk_I x2), (3, zk_I x3), (4, zk_I x4), (5, zk_I x5), (6, zk_I x6)]) hx hb dX1_boldest_81 hl (by decide) rfl (fun ls hl => ?_)
        refine zk_iload hx hb dX1_boldest_83 (lv_at hl 0 rfl) ?_
        obtain ⟨hg, hf⟩ := zk_gs hf
        have hV : W p l e zw_X1_boldest_rm s m (zw_X1_boldest_vs o p1 p2).toArray below meth c H locs 0 0 (MQ below (zk_Q (some (zk_I r)) (fun _ => True) (fun _ => False)) (zw_X1_boldest_vs o p1 p2).toArray s 0 0 (fun _ => False)) (F0 m 94 ls [zk_I (if y0 = 0 then x3 else x5)]) := by
          refine zk_istorenN (lv' := fun x3_5 => [(3, zk_I x3_5), (7, zk_I y0), (0, .ref o), (1, zk_I x1), (2, zk_I x2), (4, zk_I x4), (5, zk_I x5), (6, zk_I x6)]) hx hb dX1_boldest_94 rfl hl (by decide) (fun _ => rfl) hf (fun x3_5 hf ls hl => ?_)
          refine zk_iload hx hb dX1_boldest_95 (lv_at hl 1 rfl) ?_
          obtain ⟨hg, hf⟩ := zk_gs hf
          have hV : W p l e zw_X1_boldest_rm s m (zw_X1_boldest_vs o p1 p2).toArray below meth c H locs 0 0 (MQ below (zk_Q (some (zk_I r)) (fun _ => True) (fun _ => False)) (zw_X1_boldest_vs o p1 p2).toArray s 0 0 (fun _ => False)) (F0 m 107 ls [zk_I (if y0 = 0 then x4 else x6)]) := by
            refine zk_istoreN (lv' := fun x4_6 => [(4, zk_I x4_6), (3, zk_I x3_5), (7, zk_I y0), (0, .ref o), (1, zk_I x1), (2, zk_I x2), (5, zk_I x5), (6, zk_I x6)]) hx hb dX1_boldest_107 hl (by decide) (fun _ => rfl) hf (fun x4_6 hf ls hl => ?_)
            refine zk_iincN (lv' := fun x5_7 => [(5, zk_I x5_7), (4, zk_I x4_6), (3, zk_I x3_5), (7, zk_I y0), (0, .ref o), (1, zk_I x1), (2, zk_I x2), (6, zk_I x6)]) hx hb dX1_boldest_109 hl (k := 6) rfl (by decide) (fun _ => rfl) hf (fun x5_7 hf ls hl => ?_)
            refine lv_goto (tgt := 9) hx hb dX1_boldest_112 (by decide) ?_
            obtain rfl := zk_so hf
            exact ih9 _ _ _ _ _ H locs ls hc9 (lv_sub hl [4, 5, 6, 2, 1, 0] rfl) hP hS
          refine zk_if_eqV (tgt := 105) hx hb dX1_boldest_97 (by decide) ((fun h => h) hg) (fun hc => ?_) (fun hc => ?_)
          · rw [if_pos hc] at hV
            refine zk_iload hx hb dX1_boldest_105 (lv_at hl 5 rfl) ?_
            exact hV
          · rw [if_neg hc] at hV
            refine zk_iload hx hb dX1_boldest_100 (lv_at hl 7 rfl) ?_
            refine lv_goto (tgt := 107) hx hb dX1_boldest_102 (by decide) ?_
            exact hV
        refine zk_if_eqV (tgt := 93) hx hb dX1_boldest_85 (by decide) ((fun h => h) hg) (fun hc => ?_) (fun hc => ?_)
        · rw [if_pos hc] at hV
          refine zk_iloadn hx hb dX1_boldest_93 rfl (lv_at hl 4 rfl) ?_
          exact hV
        · rw [if_neg hc] at hV
          refine zk_iload hx hb dX1_boldest_88 (lv_at hl 6 rfl) ?_
          refine lv_goto (tgt := 94) hx hb dX1_boldest_90 (by decide) ?_
          exact hV
      have hJ80 : ∀ (x3 x4 x5 x6 : Int) (H : Heap) (locs : List Loc) (ls : Array Slot), zm_boldest_j80 N x1 x2 x3 x4 x5 x6 σ = some c9 → lv_has ls 8 [(0, .ref o), (1, zk_I x1), (2, zk_I x2), (3, zk_I x3), (4, zk_I x4), (5, zk_I x5), (6, zk_I x6)] → va_P D zk_cl (zm_P o a dA σ) H → va_S (fun _ => False) s.heap H locs → W p l e zw_X1_boldest_rm s m (zw_X1_boldest_vs o p1 p2).toArray below meth c H locs 0 0 (MQ below (zk_Q (some (zk_I r)) (fun _ => True) (fun _ => False)) (zw_X1_boldest_vs o p1 p2).toArray s 0 0 (fun _ => False)) (F0 m 80 ls []) := by
        intro x3 x4 x5 x6 H locs ls hf hl hP hS
        refine zk_iconst hx hb dX1_boldest_80 ?_
        exact hJ81 _ _ _ _ _ H locs ls hf (lv_sub hl [0, 1, 2, 3, 4, 5, 6] rfl) hP hS
      have hJ38 : ∀ (x3 x4 x5 y0 : Int) (H : Heap) (locs : List Loc) (ls : Array Slot), zm_boldest_j38 N x1 x2 x3 x4 x5 y0 σ = some c9 → lv_has ls 8 [(0, .ref o), (1, zk_I x1), (2, zk_I x2), (3, zk_I x3), (4, zk_I x4), (5, zk_I x5)] → va_P D zk_cl (zm_P o a dA σ) H → va_S (fun _ => False) s.heap H locs → W p l e zw_X1_boldest_rm s m (zw_X1_boldest_vs o p1 p2).toArray below meth c H locs 0 0 (MQ below (zk_Q (some (zk_I r)) (fun _ => True) (fun _ => False)) (zw_X1_boldest_vs o p1 p2).toArray s 0 0 (fun _ => False)) (F0 m 38 ls [zk_I y0]) := by
        intro x3 x4 x5 y0 H locs ls hf hl hP hS
        refine lv_istore (lv' := [(6, zk_I y0), (0, .ref o), (1, zk_I x1), (2, zk_I x2), (3, zk_I x3), (4, zk_I x4), (5, zk_I x5)]) hx hb dX1_boldest_38 hl (by decide) rfl (fun ls hl => ?_)
        refine zk_iload hx hb dX1_boldest_40 (lv_at hl 0 rfl) ?_
        refine zk_iload hx hb dX1_boldest_42 (lv_at hl 5 rfl) ?_
        refine zk_icmp_gt (tgt := 76) hx hb dX1_boldest_44 (by decide) hf (fun h => h) (fun hf => ?_) (fun hf => ?_)
        · refine zk_iconst hx hb dX1_boldest_76 ?_
          refine lv_goto (tgt := 81) hx hb dX1_boldest_77 (by decide) ?_
          exact hJ81 _ _ _ _ _ H locs ls hf (lv_sub hl [1, 2, 3, 4, 5, 6, 0] rfl) hP hS
        · refine zk_iload hx hb dX1_boldest_47 (lv_at hl 0 rfl) ?_
          refine zk_iload hx hb dX1_boldest_49 (lv_at hl 5 rfl) ?_
          refine zk_icmp_ne (tgt := 80) hx hb dX1_boldest_51 (by decide) hf (fun h => h) (fun hf => ?_) (fun hf => ?_)
          · exact hJ80 _ _ _ _ H locs ls hf (lv_sub hl [1, 2, 3, 4, 5, 6, 0] rfl) hP hS
          · refine zk_iloadn hx hb dX1_boldest_54 rfl (lv_at hl 4 rfl) ?_
            refine zk_bipush hx hb dX1_boldest_55 (by decide) ?_
            refine zk_icmp_eq (tgt := 80) hx hb dX1_boldest_57 (by decide) hf (fun h => ⟨h, by decide⟩) (fun hf => ?_) (fun hf => ?_)
            · exact hJ80 _ _ _ _ H locs ls hf (lv_sub hl [1, 2, 3, 4, 5, 6, 0] rfl) hP hS
            · refine lv_aload_n hx hb dX1_boldest_60 rfl (lv_at hl 1 rfl) ?_
              refine zk_iloadn hx hb dX1_boldest_61 rfl (lv_at hl 2 rfl) ?_
              refine zk_iload hx hb dX1_boldest_62 (lv_at hl 6 rfl) ?_
              obtain ⟨v3, hq, hf⟩ := zk_bs hf
              refine zk_callVR (As := [zk_I x1, zk_I x5]) (rest := []) ⟨hx, hb, hml, hown, hts⟩ (zw_X1_farOf l x1 x5 σ _ hq) (cwV 2 hts (lw_V q1139 q1141 qs55 q88 q1142) rfl rfl rfl (by decide +kernel) ⟨Nat.le_of_ble_eq_true rfl, Nat.le_of_ble_eq_true rfl⟩) hKX hP hS (va_recv hK hP (ci := 1) (q0 := 0) rfl rfl) rfl hl.1 rfl (Nat.le_of_ble_eq_true rfl) dX1_boldest_64 ⟨Nat.le_of_ble_eq_true rfl, Nat.le_of_ble_eq_true rfl⟩ (fun H locs hP hS => ?_)
              refine lv_aload_n hx hb dX1_boldest_67 rfl (lv_at hl 1 rfl) ?_
              refine zk_iloadn hx hb dX1_boldest_68 rfl (lv_at hl 2 rfl) ?_
              refine zk_iloadn hx hb dX1_boldest_69 rfl (lv_at hl 4 rfl) ?_
              obtain ⟨v4, hq, hf⟩ := zk_bs hf
              refine zk_callVR (As := [zk_I x1, zk_I x3]) (rest := [zk_I v3]) ⟨hx, hb, hml, hown, hts⟩ (zw_X1_farOf l x1 x3 σ _ hq) (cwV 2 hts (lw_V q1139 q1141 qs55 q88 q1142) rfl rfl rfl (by decide +kernel) ⟨Nat.le_of_ble_eq_true rfl, Nat.le_of_ble_eq_true rfl⟩) hKX hP hS (va_recv hK hP (ci := 1) (q0 := 0) rfl rfl) rfl hl.1 rfl (Nat.le_of_ble_eq_true rfl) dX1_boldest_70 ⟨Nat.le_of_ble_eq_true rfl, Nat.le_of_ble_eq_true rfl⟩ (fun H locs hP hS => ?_)
              refine zk_icmp_ge (tgt := 80) hx hb dX1_boldest_73 (by decide) hf (fun h => h) (fun hf => ?_) (fun hf => ?_)
              · exact hJ80 _ _ _ _ H locs ls hf (lv_sub hl [1, 2, 3, 4, 5, 6, 0] rfl) hP hS
              · refine zk_iconst hx hb dX1_boldest_76 ?_
                refine lv_goto (tgt := 81) hx hb dX1_boldest_77 (by decide) ?_
                exact hJ81 _ _ _ _ _ H locs ls hf (lv_sub hl [1, 2, 3, 4, 5, 6, 0] rfl) hP hS
      refine zk_iload hx hb dX1_boldest_9 (lv_at hl 5 rfl) ?_
      refine lv_aload_n hx hb dX1_boldest_11 rfl (lv_at hl 0 rfl) ?_
      refine zm_rget hx hb hts hown hK hP 1 (by decide) q950 rfl dX1_boldest_12 ?_
      refine zk_icmp_ge (tgt := 115) hx hb dX1_boldest_15 (by decide) hf (fun h => h) (fun hf => ?_) (fun hf => ?_)
      · obtain rfl := zk_so hf
        exact hJ115 _ H locs ls hc9 (lv_sub hl [3] rfl) hP hS
      · refine zk_iloadn hx hb dX1_boldest_18 rfl (lv_at hl 2 rfl) ?_
        refine zk_iload hx hb dX1_boldest_19 (lv_at hl 5 rfl) ?_
        obtain ⟨v1, hq, hf⟩ := zk_bs hf
        refine zk_callSS (As := [zk_I x2, zk_I x5]) (rest := []) ⟨hx, hb, hml, hown, hts⟩ (zw_X1_has l x2 x5 _ hq) (va_cwS 2 hts (lw_S q1177 q1178 q88 q1179) rfl rfl rfl (by decide +kernel) ⟨Nat.le_of_ble_eq_true rfl, Nat.le_of_ble_eq_true rfl⟩) hP hS rfl hl.1 rfl (Nat.le_of_ble_eq_true rfl) dX1_boldest_21 ⟨Nat.le_of_ble_eq_true rfl, Nat.le_of_ble_eq_true rfl⟩ (fun H locs hP hS => ?_)
        refine zk_if_eq (tgt := 31) hx hb dX1_boldest_24 (by decide) hf (fun h => h) (fun hf => ?_) (fun hf => ?_)
        · refine lv_aload_n hx hb dX1_boldest_31 rfl (lv_at hl 0 rfl) ?_
          refine zk_iloadn hx hb dX1_boldest_32 rfl (lv_at hl 1 rfl) ?_
          refine zk_iload hx hb dX1_boldest_33 (lv_at hl 5 rfl) ?_
          obtain ⟨v2, hq, hf⟩ := zk_bs hf
          refine zk_callVR (As := [zk_I x1, zk_I x5]) (rest := []) ⟨hx, hb, hml, hown, hts⟩ (zw_X1_daresIn l x1 x5 σ _ hq) (cwV 2 hts (lw_V q1135 q1137 qs54 q88 q1138) rfl rfl rfl (by decide +kernel) ⟨Nat.le_of_ble_eq_true rfl, Nat.le_of_ble_eq_true rfl⟩) hKX hP hS (va_recv hK hP (ci := 1) (q0 := 0) rfl rfl) rfl hl.1 rfl (Nat.le_of_ble_eq_true rfl) dX1_boldest_35 ⟨Nat.le_of_ble_eq_true rfl, Nat.le_of_ble_eq_true rfl⟩ (fun H locs hP hS => ?_)
          exact hJ38 _ _ _ _ H locs ls hf (lv_sub hl [0, 1, 2, 3, 4, 5] rfl) hP hS
        · refine zk_iconst hx hb dX1_boldest_27 ?_
          refine lv_goto (tgt := 38) hx hb dX1_boldest_28 (by decide) ?_
          exact hJ38 _ _ _ _ H locs ls hf (lv_sub hl [0, 1, 2, 3, 4, 5] rfl) hP hS
  refine zk_bipush hx hb dX1_boldest_0 (by decide) ?_
  refine lv_istore_n (lv' := [(3, zk_I (-9)), (0, .ref o), (1, zk_I p1), (2, zk_I p2)]) hx hb dX1_boldest_2 rfl hl (by decide) rfl (fun ls hl => ?_)
  refine zk_iconst hx hb dX1_boldest_3 ?_
  refine lv_istore (lv' := [(4, zk_I 0), (3, zk_I (-9)), (0, .ref o), (1, zk_I p1), (2, zk_I p2)]) hx hb dX1_boldest_4 hl (by decide) rfl (fun ls hl => ?_)
  refine zk_iconst hx hb dX1_boldest_6 ?_
  refine lv_istore (lv' := [(5, zk_I 0), (4, zk_I 0), (3, zk_I (-9)), (0, .ref o), (1, zk_I p1), (2, zk_I p2)]) hx hb dX1_boldest_7 hl (by decide) rfl (fun ls hl => ?_)
  exact hL9 N _ _ _ _ _ H locs ls hf (lv_sub hl [3, 4, 5, 2, 1, 0] rfl) hP hS
abbrev zw_X1_fades_rm : Room := { frames := 1, cells := 0, slots := 0, locals := 32 }
abbrev zw_X1_fades_vs (o : Nat) (p1 : Int) : List Value := [.ref o, zk_I p1]
set_option maxHeartbeats 4000000 in
set_option maxRecDepth 100000 in
theorem zw_X1_fades (l : Launch) {D : va_G} {o : Nat} {a : Nat → Nat} {dA : Nat → ClassId} (p1 : Int) (σ : ZS) (r : Int) (hf : zm_fades p1 σ = some r) : zk_MR l yX1_fades (ws_ yX1_fades cX1_fades 2 (Option.some Jvm.ClassFile.FieldType.int)) zw_X1_fades_rm D zk_cl (zk_ty dA) (zw_X1_fades_vs o p1) (zm_P o a dA σ) (some (zk_I r)) := by
  refine zk_startW (by decide +kernel) (Nat.le_of_ble_eq_true rfl) (fun p e s m below meth c H locs ls hx hb hr hlk hml hown hts hKX hP hS hl => ?_)
  have hl : lv_has ls 2 [(0, .ref o), (1, zk_I p1)] := hl
  have hK := hKX.1
  have hown : s.vm.findClass RX1 = some m.cls := hown
  have hf : zm_fades p1 σ = some r := hf
  refine lv_aload_n hx hb dX1_fades_0 rfl (lv_at hl 0 rfl) ?_
  refine zm_rget hx hb hts hown hK hP 2 (by decide) q951 rfl dX1_fades_1 ?_
  refine zk_iloadn hx hb dX1_fades_4 rfl (lv_at hl 1 rfl) ?_
  refine zk_iald hx hb hK hP 2 0 rfl rfl (N := 6) ⟨by decide, by decide⟩ hf dX1_fades_5 (fun hf => ?_)
  refine zk_iconst hx hb dX1_fades_6 ?_
  refine zk_icmp_eq (tgt := 20) hx hb dX1_fades_7 (by decide) hf (fun h => ⟨h, by decide⟩) (fun hf => ?_) (fun hf => ?_)
  · refine zk_iconst hx hb dX1_fades_20 ?_
    refine lv_goto (tgt := 49) hx hb dX1_fades_21 (by decide) ?_
    exact zk_iret hx hb hr hlk (Option.some.inj hf) (fun _ _ => trivial) hS dX1_fades_49
  · refine lv_aload_n hx hb dX1_fades_10 rfl (lv_at hl 0 rfl) ?_
    refine zm_rget hx hb hts hown hK hP 2 (by decide) q951 rfl dX1_fades_11 ?_
    refine zk_iloadn hx hb dX1_fades_14 rfl (lv_at hl 1 rfl) ?_
    refine zk_iald hx hb hK hP 2 0 rfl rfl (N := 6) ⟨by decide, by decide⟩ hf dX1_fades_15 (fun hf => ?_)
    refine zk_iconst hx hb dX1_fades_16 ?_
    refine zk_icmp_ne (tgt := 24) hx hb dX1_fades_17 (by decide) hf (fun h => ⟨h, by decide⟩) (fun hf => ?_) (fun hf => ?_)
    · refine lv_aload_n hx hb dX1_fades_24 rfl (lv_at hl 0 rfl) ?_
      refine zm_rget hx hb hts hown hK hP 2 (by decide) q951 rfl dX1_fades_25 ?_
      refine zk_iloadn hx hb dX1_fades_28 rfl (lv_at hl 1 rfl) ?_
      refine zk_iald hx hb hK hP 2 0 rfl rfl (N := 6) ⟨by decide, by decide⟩ hf dX1_fades_29 (fun hf => ?_)
      refine zk_iconst hx hb dX1_fades_30 ?_
      refine zk_icmp_eq (tgt := 44) hx hb dX1_fades_31 (by decide) hf (fun h => ⟨h, by decide⟩) (fun hf => ?_) (fun hf => ?_)
      · refine zk_iconst hx hb dX1_fades_44 ?_
        refine lv_goto (tgt := 49) hx hb dX1_fades_45 (by decide) ?_
        exact zk_iret hx hb hr hlk (Option.some.inj hf) (fun _ _ => trivial) hS dX1_fades_49
      · refine lv_aload_n hx hb dX1_fades_34 rfl (lv_at hl 0 rfl) ?_
        refine zm_rget hx hb hts hown hK hP 2 (by decide) q951 rfl dX1_fades_35 ?_
        refine zk_iloadn hx hb dX1_fades_38 rfl (lv_at hl 1 rfl) ?_
        refine zk_iald hx hb hK hP 2 0 rfl rfl (N := 6) ⟨by decide, by decide⟩ hf dX1_fades_39 (fun hf => ?_)
        refine zk_iconst hx hb dX1_fades_40 ?_
        refine zk_icmp_ne (tgt := 48) hx hb dX1_fades_41 (by decide) hf (fun h => ⟨h, by decide⟩) (fun hf => ?_) (fun hf => ?_)
        · refine zk_iconst hx hb dX1_fades_48 ?_
          exact zk_iret hx hb hr hlk (Option.some.inj hf) (fun _ _ => trivial) hS dX1_fades_49
        · refine zk_iconst hx hb dX1_fades_44 ?_
          refine lv_goto (tgt := 49) hx hb dX1_fades_45 (by decide) ?_
          exact zk_iret hx hb hr hlk (Option.some.inj hf) (fun _ _ => trivial) hS dX1_fades_49
    · refine zk_iconst hx hb dX1_fades_20 ?_
      refine lv_goto (tgt := 49) hx hb dX1_fades_21 (by decide) ?_
      exact zk_iret hx hb hr hlk (Option.some.inj hf) (fun _ _ => trivial) hS dX1_fades_49
abbrev zw_X1_passes_rm : Room := { frames := 5, cells := 0, slots := 0, locals := 124 }
abbrev zw_X1_passes_vs (o : Nat) (p1 : Int) : List Value := [.ref o, zk_I p1]
set_option maxHeartbeats 4000000 in
set_option maxRecDepth 100000 in
theorem zw_X1_passes (l : Launch) {D : va_G} {o : Nat} {a : Nat → Nat} {dA : Nat → ClassId} {A : Nat → Prop} (hD : ∀ τ, va_D A (zm_P o a dA τ)) (N : Nat) (p1 : Int) (σ : ZS) (r : Int) (σ' : ZS) (hf : zm_passes N p1 σ = some (r, σ')) : zk_MW l yX1_passes (ws_ yX1_passes cX1_passes 5 (Option.some Jvm.ClassFile.FieldType.int)) zw_X1_passes_rm D zk_cl (zk_ty dA) A (zw_X1_passes_vs o p1) (zm_P o a dA σ) (zm_P o a dA σ') (some (zk_I r)) := by
  refine zk_startW (by decide +kernel) (Nat.le_of_ble_eq_true rfl) (fun p e s m below meth c H locs ls hx hb hr hlk hml hown hts hKX hP hS hl => ?_)
  have hl : lv_has ls 5 [(0, .ref o), (1, zk_I p1)] := hl
  have hK := hKX.1
  have hown : s.vm.findClass RX1 = some m.cls := hown
  have hf : zm_passes N p1 σ = some (r, σ') := hf
  have hJ112 : ∀ (x1 x2 : Int) (s0 : ZS) (H : Heap) (locs : List Loc) (ls : Array Slot), zm_passes_j112 N x1 x2 s0 = some (r, σ') → lv_has ls 5 [(0, .ref o), (1, zk_I x1), (2, zk_I x2)] → va_P D zk_cl (zm_P o a dA s0) H → va_S A s.heap H locs → W p l e zw_X1_passes_rm s m (zw_X1_passes_vs o p1).toArray below meth c H locs 0 0 (MQ below (zk_Q (some (zk_I r)) (fun t => va_P D zk_cl (zm_P o a dA σ') t.heap) A) (zw_X1_passes_vs o p1).toArray s 0 0 A) (F0 m 112 ls []) := by
    intro x1 x2 s0 H locs ls hf hl hP hS
    refine lv_aload_n hx hb dX1_passes_112 rfl (lv_at hl 0 rfl) ?_
    refine zm_rget hx hb hts hown hK hP 0 (by decide) q949 rfl dX1_passes_113 ?_
    refine zk_iloadn hx hb dX1_passes_116 rfl (lv_at hl 1 rfl) ?_
    refine zk_iconst hx hb dX1_passes_117 ?_
    refine zk_iadd hx hb dX1_passes_118 ?_
    refine lv_dup2_11 hx hb dX1_passes_119 rfl rfl ?_
    refine zk_iald hx hb hK hP 1 0 rfl rfl (N := 3305) ⟨by decide, by decide⟩ hf dX1_passes_120 (fun hf => ?_)
    refine zk_iconst hx hb dX1_passes_121 ?_
    refine zk_iadd hx hb dX1_passes_122 ?_
    refine zk_iastN hx hb hK hP hD hS 1 0 0 rfl rfl (N := 3305) ⟨by decide, by decide⟩ (zm_t0 _ _ _) hf dX1_passes_123 (fun s8 H locs hf hP hS => ?_)
    refine zk_iloadn hx hb dX1_passes_124 rfl (lv_at hl 2 rfl) ?_
    exact zk_iret hx hb hr hlk (zk_p1 hf) (zk_pB hf hP) hS dX1_passes_125
  have hL48 : ∀ (n : Nat) (x1 x2 x3 : Int) (s0 : ZS) (H : Heap) (locs : List Loc) (ls : Array Slot), zk_b (zk_loop (α := Int × ZS) (β := ZS) n (fun a => zm_passes_b48 N x1 x2 a.1 a.2) (x3, s0)) (fun e => zm_passes_j112 N x1 x2 e) = some (r, σ') → lv_has ls 5 [(0, .ref o), (1, zk_I x1), (2, zk_I x2), (3, zk_I x3)] → va_P D zk_cl (zm_P o a dA s0) H → va_S A s.heap H locs → W p l e zw_X1_passes_rm s m (zw_X1_passes_vs o p1).toArray below meth c H locs 0 0 (MQ below (zk_Q (some (zk_I r)) (fun t => va_P D zk_cl (zm_P o a dA σ') t.heap) A) (zw_X1_passes_vs o p1).toArray s 0 0 A) (F0 m 48 ls []) := by
    intro n
    induction n with
    | zero => intro x1 x2 x3 s0 H locs ls hf; exact (zk_l0 hf).elim
    | succ n ih48 =>
      intro x1 x2 x3 s0 H locs ls hf hl hP hS
      obtain ⟨c48, hf, hc48⟩ := zk_ls hf
      have hJ81 : ∀ (x3 y0 y1 : Int) (s0 : ZS) (H : Heap) (locs : List Loc) (ls : Array Slot), zm_passes_j81 N x1 x2 x3 y0 y1 s0 = some c48 → lv_has ls 5 [(0, .ref o), (1, zk_I x1), (2, zk_I x2), (3, zk_I x3)] → va_P D zk_cl (zm_P o a dA s0) H → va_S A s.heap H locs → W p l e zw_X1_passes_rm s m (zw_X1_passes_vs o p1).toArray below meth c H locs 0 0 (MQ below (zk_Q (some (zk_I r)) (fun t => va_P D zk_cl (zm_P o a dA σ') t.heap) A) (zw_X1_passes_vs o p1).toArray s 0 0 A) (F0 m 81 ls [zk_I y1, zk_I y0]) := by
        intro x3 y0 y1 s0 H locs ls hf hl hP hS
        refine zk_isub hx hb dX1_passes_81 ?_
        refine zk_istoreN (lv' := fun x4_5 => [(4, zk_I x4_5), (0, .ref o), (1, zk_I x1), (2, zk_I x2), (3, zk_I x3)]) hx hb dX1_passes_82 hl (by decide) (fun _ => rfl) hf (fun x4_5 hf ls hl => ?_)
        refine lv_aload_n hx hb dX1_passes_84 rfl (lv_at hl 1 rfl) ?_
        refine zm_rget hx hb hts hown hK hP 0 (by decide) q949 rfl dX1_passes_85 ?_
        refine zk_iloadn hx hb dX1_passes_88 rfl (lv_at hl 2 rfl) ?_
        refine zk_bipush hx hb dX1_passes_89 (by decide) ?_
        refine zk_iadd hx hb dX1_passes_91 ?_
        refine zk_iloadn hx hb dX1_passes_92 rfl (lv_at hl 4 rfl) ?_
        refine zk_iadd hx hb dX1_passes_93 ?_
        refine zk_iload hx hb dX1_passes_94 (lv_at hl 0 rfl) ?_
        obtain ⟨hg, hf⟩ := zk_gs hf
        have hV : W p l e zw_X1_passes_rm s m (zw_X1_passes_vs o p1).toArray below meth c H locs 0 0 (MQ below (zk_Q (some (zk_I r)) (fun t => va_P D zk_cl (zm_P o a dA σ') t.heap) A) (zw_X1_passes_vs o p1).toArray s 0 0 A) (F0 m 105 ls [zk_I (if 0 ≤ x4_5 then x4_5 else 0), zk_I (x1 + 9 + x3), .ref (a 0)]) := by
          refine zk_iastN hx hb hK hP hD hS 1 0 0 rfl rfl (N := 3305) ⟨by decide, by decide⟩ (zm_t0 _ _ _) hf dX1_passes_105 (fun s6 H locs hf hP hS => ?_)
          refine zk_iincN (lv' := fun x3_7 => [(3, zk_I x3_7), (4, zk_I x4_5), (0, .ref o), (1, zk_I x1), (2, zk_I x2)]) hx hb dX1_passes_106 hl (k := 4) rfl (by decide) (fun _ => rfl) hf (fun x3_7 hf ls hl => ?_)
          refine lv_goto (tgt := 48) hx hb dX1_passes_109 (by decide) ?_
          obtain rfl := zk_so hf
          exact ih48 _ _ _ _ H locs ls hc48 (lv_sub hl [2, 3, 4, 0] rfl) hP hS
        refine zk_if_geV (tgt := 103) hx hb dX1_passes_96 (by decide) ((fun h => h) hg) (fun hc => ?_) (fun hc => ?_)
        · rw [if_pos hc] at hV
          refine zk_iload hx hb dX1_passes_103 (lv_at hl 0 rfl) ?_
          exact hV
        · rw [if_neg hc] at hV
          refine zk_iconst hx hb dX1_passes_99 ?_
          refine lv_goto (tgt := 105) hx hb dX1_passes_100 (by decide) ?_
          exact hV
      refine zk_iloadn hx hb dX1_passes_48 rfl (lv_at hl 3 rfl) ?_
      refine lv_aload_n hx hb dX1_passes_49 rfl (lv_at hl 0 rfl) ?_
      refine zm_rget hx hb hts hown hK hP 1 (by decide) q950 rfl dX1_passes_50 ?_
      refine zk_icmp_ge (tgt := 112) hx hb dX1_passes_53 (by decide) hf (fun h => h) (fun hf => ?_) (fun hf => ?_)
      · obtain rfl := zk_so hf
        exact hJ112 _ _ _ H locs ls hc48 (lv_sub hl [0, 1, 2] rfl) hP hS
      · refine lv_aload_n hx hb dX1_passes_56 rfl (lv_at hl 0 rfl) ?_
        refine zm_rget hx hb hts hown hK hP 0 (by decide) q949 rfl dX1_passes_57 ?_
        refine zk_iloadn hx hb dX1_passes_60 rfl (lv_at hl 1 rfl) ?_
        refine zk_bipush hx hb dX1_passes_61 (by decide) ?_
        refine zk_iadd hx hb dX1_passes_63 ?_
        refine zk_iloadn hx hb dX1_passes_64 rfl (lv_at hl 3 rfl) ?_
        refine zk_iadd hx hb dX1_passes_65 ?_
        refine zk_iald hx hb hK hP 1 0 rfl rfl (N := 3305) ⟨by decide, by decide⟩ hf dX1_passes_66 (fun hf => ?_)
        refine zk_iloadn hx hb dX1_passes_67 rfl (lv_at hl 3 rfl) ?_
        refine zk_iloadn hx hb dX1_passes_68 rfl (lv_at hl 2 rfl) ?_
        refine zk_icmp_ne (tgt := 76) hx hb dX1_passes_69 (by decide) hf (fun h => h) (fun hf => ?_) (fun hf => ?_)
        · refine lv_aload_n hx hb dX1_passes_76 rfl (lv_at hl 0 rfl) ?_
          refine zk_iloadn hx hb dX1_passes_77 rfl (lv_at hl 3 rfl) ?_
          obtain ⟨v4, hq, hf⟩ := zk_bs hf
          refine zk_callVR (As := [zk_I x3]) (rest := [zk_I (s0 0 (x1 + 9 + x3))]) ⟨hx, hb, hml, hown, hts⟩ (zw_X1_fades l x3 s0 _ hq) (cwV 1 hts (lw_V q1180 q1182 qs61 q88 q1183) rfl rfl rfl (by decide +kernel) ⟨Nat.le_of_ble_eq_true rfl, Nat.le_of_ble_eq_true rfl⟩) hKX hP hS (va_recv hK hP (ci := 1) (q0 := 0) rfl rfl) rfl hl.1 rfl (Nat.le_of_ble_eq_true rfl) dX1_passes_78 ⟨Nat.le_of_ble_eq_true rfl, Nat.le_of_ble_eq_true rfl⟩ (fun H locs hP hS => ?_)
          exact hJ81 _ _ _ _ H locs ls hf (lv_sub hl [0, 1, 2, 3] rfl) hP hS
        · refine zk_iconst hx hb dX1_passes_72 ?_
          refine lv_goto (tgt := 81) hx hb dX1_passes_73 (by decide) ?_
          exact hJ81 _ _ _ _ H locs ls hf (lv_sub hl [0, 1, 2, 3] rfl) hP hS
  have hJ46 : ∀ (x1 x2 : Int) (s0 : ZS) (H : Heap) (locs : List Loc) (ls : Array Slot), zm_passes_j46 N x1 x2 s0 = some (r, σ') → lv_has ls 5 [(0, .ref o), (1, zk_I x1), (2, zk_I x2)] → va_P D zk_cl (zm_P o a dA s0) H → va_S A s.heap H locs → W p l e zw_X1_passes_rm s m (zw_X1_passes_vs o p1).toArray below meth c H locs 0 0 (MQ below (zk_Q (some (zk_I r)) (fun t => va_P D zk_cl (zm_P o a dA σ') t.heap) A) (zw_X1_passes_vs o p1).toArray s 0 0 A) (F0 m 46 ls []) := by
    intro x1 x2 s0 H locs ls hf hl hP hS
    refine zk_iconst hx hb dX1_passes_46 ?_
    refine lv_istore_n (lv' := [(3, zk_I 0), (0, .ref o), (1, zk_I x1), (2, zk_I x2)]) hx hb dX1_passes_47 rfl hl (by decide) rfl (fun ls hl => ?_)
    exact hL48 N _ _ _ _ H locs ls hf (lv_sub hl [1, 2, 3, 0] rfl) hP hS
  refine lv_aload_n hx hb dX1_passes_0 rfl (lv_at hl 0 rfl) ?_
  refine zk_iloadn hx hb dX1_passes_1 rfl (lv_at hl 1 rfl) ?_
  refine zk_iconst hx hb dX1_passes_2 ?_
  obtain ⟨v1, hq, hf⟩ := zk_bs hf
  refine zk_callVR (As := [zk_I p1, zk_I 0]) (rest := []) ⟨hx, hb, hml, hown, hts⟩ (zw_X1_boldest l N p1 0 σ _ hq) (cwV 2 hts (lw_V q1173 q1175 qs60 q88 q1176) rfl rfl rfl (by decide +kernel) ⟨Nat.le_of_ble_eq_true rfl, Nat.le_of_ble_eq_true rfl⟩) hKX hP hS (va_recv hK hP (ci := 1) (q0 := 0) rfl rfl) rfl hl.1 rfl (Nat.le_of_ble_eq_true rfl) dX1_passes_3 ⟨Nat.le_of_ble_eq_true rfl, Nat.le_of_ble_eq_true rfl⟩ (fun H locs hP hS => ?_)
  refine lv_istore_n (lv' := [(2, zk_I v1), (0, .ref o), (1, zk_I p1)]) hx hb dX1_passes_6 rfl hl (by decide) rfl (fun ls hl => ?_)
  refine zk_iloadn hx hb dX1_passes_7 rfl (lv_at hl 0 rfl) ?_
  refine zk_bipush hx hb dX1_passes_8 (by decide) ?_
  refine zk_icmp_eq (tgt := 46) hx hb dX1_passes_10 (by decide) hf (fun h => ⟨h, by decide⟩) (fun hf => ?_) (fun hf => ?_)
  · exact hJ46 _ _ _ H locs ls hf (lv_sub hl [1, 2, 0] rfl) hP hS
  · refine lv_aload_n hx hb dX1_passes_13 rfl (lv_at hl 1 rfl) ?_
    refine zm_rget hx hb hts hown hK hP 0 (by decide) q949 rfl dX1_passes_14 ?_
    refine zk_iloadn hx hb dX1_passes_17 rfl (lv_at hl 2 rfl) ?_
    refine zk_iconst hx hb dX1_passes_18 ?_
    refine zk_iadd hx hb dX1_passes_19 ?_
    refine lv_aload_n hx hb dX1_passes_20 rfl (lv_at hl 1 rfl) ?_
    refine zm_rget hx hb hts hown hK hP 0 (by decide) q949 rfl dX1_passes_21 ?_
    refine zk_iloadn hx hb dX1_passes_24 rfl (lv_at hl 2 rfl) ?_
    refine zk_iconst hx hb dX1_passes_25 ?_
    refine zk_iadd hx hb dX1_passes_26 ?_
    refine zk_iloadn hx hb dX1_passes_27 rfl (lv_at hl 0 rfl) ?_
    refine zk_iadd hx hb dX1_passes_28 ?_
    refine zk_iald hx hb hK hP 1 0 rfl rfl (N := 3305) ⟨by decide, by decide⟩ hf dX1_passes_29 (fun hf => ?_)
    refine zk_iastN hx hb hK hP hD hS 1 0 0 rfl rfl (N := 3305) ⟨by decide, by decide⟩ (zm_t0 _ _ _) hf dX1_passes_30 (fun s2 H locs hf hP hS => ?_)
    refine lv_aload_n hx hb dX1_passes_31 rfl (lv_at hl 1 rfl) ?_
    refine zm_rget hx hb hts hown hK hP 0 (by decide) q949 rfl dX1_passes_32 ?_
    refine zk_iloadn hx hb dX1_passes_35 rfl (lv_at hl 2 rfl) ?_
    refine zk_bipush hx hb dX1_passes_36 (by decide) ?_
    refine zk_iadd hx hb dX1_passes_38 ?_
    refine zk_iloadn hx hb dX1_passes_39 rfl (lv_at hl 0 rfl) ?_
    refine zk_iadd hx hb dX1_passes_40 ?_
    refine lv_dup2_11 hx hb dX1_passes_41 rfl rfl ?_
    refine zk_iald hx hb hK hP 1 0 rfl rfl (N := 3305) ⟨by decide, by decide⟩ hf dX1_passes_42 (fun hf => ?_)
    refine zk_iconst hx hb dX1_passes_43 ?_
    refine zk_iadd hx hb dX1_passes_44 ?_
    refine zk_iastN hx hb hK hP hD hS 1 0 0 rfl rfl (N := 3305) ⟨by decide, by decide⟩ (zm_t0 _ _ _) hf dX1_passes_45 (fun s3 H locs hf hP hS => ?_)
    exact hJ46 _ _ _ H locs ls hf (lv_sub hl [1, 2, 0] rfl) hP hS
abbrev zw_X1_night_rm : Room := { frames := 6, cells := 0, slots := 0, locals := 148 }
abbrev zw_X1_night_vs (o : Nat) : List Value := [.ref o]
set_option maxHeartbeats 4000000 in
set_option maxRecDepth 100000 in
theorem zw_X1_night (l : Launch) {D : va_G} {o : Nat} {a : Nat → Nat} {dA : Nat → ClassId} {A : Nat → Prop} (hD : ∀ τ, va_D A (zm_P o a dA τ)) (N : Nat) (σ : ZS) (r : Int) (σ' : ZS) (hf : zm_night N  σ = some (r, σ')) : zk_MW l yX1_night (ws_ yX1_night cX1_night 1 (Option.some Jvm.ClassFile.FieldType.int)) zw_X1_night_rm D zk_cl (zk_ty dA) A (zw_X1_night_vs o) (zm_P o a dA σ) (zm_P o a dA σ') (some (zk_I r)) := by
  refine zk_startW (by decide +kernel) (Nat.le_of_ble_eq_true rfl) (fun p e s m below meth c H locs ls hx hb hr hlk hml hown hts hKX hP hS hl => ?_)
  have hl : lv_has ls 1 [(0, .ref o)] := hl
  have hK := hKX.1
  have hown : s.vm.findClass RX1 = some m.cls := hown
  have hf : zm_night N  σ = some (r, σ') := hf
  refine lv_aload_n hx hb dX1_night_0 rfl (lv_at hl 0 rfl) ?_
  refine zm_rget hx hb hts hown hK hP 1 (by decide) q950 rfl dX1_night_1 ?_
  refine zk_if_ne (tgt := 10) hx hb dX1_night_4 (by decide) hf (fun h => h) (fun hf => ?_) (fun hf => ?_)
  · refine lv_aload_n hx hb dX1_night_10 rfl (lv_at hl 0 rfl) ?_
    refine zm_rget hx hb hts hown hK hP 0 (by decide) q949 rfl dX1_night_11 ?_
    refine zk_iconst hx hb dX1_night_14 ?_
    refine zk_iald hx hb hK hP 1 0 rfl rfl (N := 3305) ⟨by decide, by decide⟩ hf dX1_night_15 (fun hf => ?_)
    refine zk_bipush hx hb dX1_night_16 (by decide) ?_
    refine zk_icmp_ne (tgt := 24) hx hb dX1_night_18 (by decide) hf (fun h => ⟨h, by decide⟩) (fun hf => ?_) (fun hf => ?_)
    · refine lv_aload_n hx hb dX1_night_24 rfl (lv_at hl 0 rfl) ?_
      obtain ⟨v1, s2, hq, hf⟩ := zk_b2s hf
      refine zk_callVW (As := []) (rest := []) ⟨hx, hb, hml, hown, hts⟩ (zw_X1_keepPast l hD N  σ _ _ hq) (cwV 0 hts (lw_V q1165 q1167 qs58 q88 q1168) rfl rfl rfl (by decide +kernel) ⟨Nat.le_of_ble_eq_true rfl, Nat.le_of_ble_eq_true rfl⟩) hKX hP hS (va_recv hK hP (ci := 1) (q0 := 0) rfl rfl) rfl hl.1 rfl (Nat.le_of_ble_eq_true rfl) dX1_night_25 ⟨Nat.le_of_ble_eq_true rfl, Nat.le_of_ble_eq_true rfl⟩ (fun H locs hP hS => ?_)
      refine lv_aload_n hx hb dX1_night_28 rfl (lv_at hl 0 rfl) ?_
      refine zk_iconst hx hb dX1_night_29 ?_
      obtain ⟨v3, s4, hq, hf⟩ := zk_b2s hf
      refine zk_callVW (As := [zk_I 0]) (rest := []) ⟨hx, hb, hml, hown, hts⟩ (zw_X1_passes l hD N 0 s2 _ _ hq) (cwV 1 hts (lw_V q1169 q1171 qs59 q88 q1172) rfl rfl rfl (by decide +kernel) ⟨Nat.le_of_ble_eq_true rfl, Nat.le_of_ble_eq_true rfl⟩) hKX hP hS (va_recv hK hP (ci := 1) (q0 := 0) rfl rfl) rfl hl.1 rfl (Nat.le_of_ble_eq_true rfl) dX1_night_30 ⟨Nat.le_of_ble_eq_true rfl, Nat.le_of_ble_eq_true rfl⟩ (fun H locs hP hS => ?_)
      exact zk_iret hx hb hr hlk (zk_p1 hf) (zk_pB hf hP) hS dX1_night_33
    · refine zk_bipush hx hb dX1_night_21 (by decide) ?_
      exact zk_iret hx hb hr hlk (zk_p1 hf) (zk_pB hf hP) hS dX1_night_23
  · refine zk_bipush hx hb dX1_night_7 (by decide) ?_
    exact zk_iret hx hb hr hlk (zk_p1 hf) (zk_pB hf hP) hS dX1_night_9
abbrev zw_X1_makeDaring_rm : Room := { frames := 2, cells := 0, slots := 0, locals := 57 }
abbrev zw_X1_makeDaring_vs (o : Nat) (p1 p2 : Int) : List Value := [.ref o, zk_I p1, zk_I p2]
set_option maxHeartbeats 4000000 in
set_option maxRecDepth 100000 in
theorem zw_X1_makeDaring (l : Launch) {D : va_G} {o : Nat} {a : Nat → Nat} {dA : Nat → ClassId} {A : Nat → Prop} (hD : ∀ τ, va_D A (zm_P o a dA τ)) (N : Nat) (p1 p2 : Int) (σ : ZS) (r : Int) (σ' : ZS) (hf : zm_makeDaring N p1 p2 σ = some (r, σ')) : zk_MW l yX1_makeDaring (ws_ yX1_makeDaring cX1_makeDaring 3 (Option.some Jvm.ClassFile.FieldType.int)) zw_X1_makeDaring_rm D zk_cl (zk_ty dA) A (zw_X1_makeDaring_vs o p1 p2) (zm_P o a dA σ) (zm_P o a dA σ') (some (zk_I r)) := by
  refine zk_startW (by decide +kernel) (Nat.le_of_ble_eq_true rfl) (fun p e s m below meth c H locs ls hx hb hr hlk hml hown hts hKX hP hS hl => ?_)
  have hl : lv_has ls 3 [(0, .ref o), (1, zk_I p1), (2, zk_I p2)] := hl
  have hK := hKX.1
  have hown : s.vm.findClass RX1 = some m.cls := hown
  have hf : zm_makeDaring N p1 p2 σ = some (r, σ') := hf
  refine zk_iloadn hx hb dX1_makeDaring_0 rfl (lv_at hl 2 rfl) ?_
  refine zk_ri2l hx hb dX1_makeDaring_1 hf (fun hf => ?_)
  refine zk_lconst (v := 0) hx hb dX1_makeDaring_2 rfl ?_
  refine zk_ldc2 hx hb 20 hown (hts _ q1193) rfl dX1_makeDaring_3 ?_
  obtain ⟨v1, hq, hf⟩ := zk_bs hf
  refine zk_callSS (As := [zk_L p2, zk_L 0, zk_L 20]) (rest := []) ⟨hx, hb, hml, hown, hts⟩ (zw_X1_in l p2 0 20 _ hq) (va_cwS 3 hts (lw_S q1027 q1028 q88 q1029) rfl rfl rfl (by decide +kernel) ⟨Nat.le_of_ble_eq_true rfl, Nat.le_of_ble_eq_true rfl⟩) hP hS rfl hl.1 rfl (Nat.le_of_ble_eq_true rfl) dX1_makeDaring_6 ⟨Nat.le_of_ble_eq_true rfl, Nat.le_of_ble_eq_true rfl⟩ (fun H locs hP hS => ?_)
  refine zk_if_ne (tgt := 15) hx hb dX1_makeDaring_9 (by decide) hf (fun h => h) (fun hf => ?_) (fun hf => ?_)
  · refine lv_aload_n hx hb dX1_makeDaring_15 rfl (lv_at hl 0 rfl) ?_
    refine zm_rget hx hb hts hown hK hP 0 (by decide) q949 rfl dX1_makeDaring_16 ?_
    refine zk_iconst hx hb dX1_makeDaring_19 ?_
    refine zk_iald hx hb hK hP 1 0 rfl rfl (N := 3305) ⟨by decide, by decide⟩ hf dX1_makeDaring_20 (fun hf => ?_)
    refine zk_bipush hx hb dX1_makeDaring_21 (by decide) ?_
    refine zk_icmp_ne (tgt := 29) hx hb dX1_makeDaring_23 (by decide) hf (fun h => ⟨h, by decide⟩) (fun hf => ?_) (fun hf => ?_)
    · refine lv_aload_n hx hb dX1_makeDaring_29 rfl (lv_at hl 0 rfl) ?_
      obtain ⟨v2, s3, hq, hf⟩ := zk_b2s hf
      refine zk_callVW (As := []) (rest := []) ⟨hx, hb, hml, hown, hts⟩ (zw_X1_keepPast l hD N  σ _ _ hq) (cwV 0 hts (lw_V q1165 q1167 qs58 q88 q1168) rfl rfl rfl (by decide +kernel) ⟨Nat.le_of_ble_eq_true rfl, Nat.le_of_ble_eq_true rfl⟩) hKX hP hS (va_recv hK hP (ci := 1) (q0 := 0) rfl rfl) rfl hl.1 rfl (Nat.le_of_ble_eq_true rfl) dX1_makeDaring_30 ⟨Nat.le_of_ble_eq_true rfl, Nat.le_of_ble_eq_true rfl⟩ (fun H locs hP hS => ?_)
      refine lv_aload_n hx hb dX1_makeDaring_33 rfl (lv_at hl 0 rfl) ?_
      refine zm_rget hx hb hts hown hK hP 0 (by decide) q949 rfl dX1_makeDaring_34 ?_
      refine zk_bipush hx hb dX1_makeDaring_37 (by decide) ?_
      refine zk_iloadn hx hb dX1_makeDaring_39 rfl (lv_at hl 1 rfl) ?_
      refine zk_iadd hx hb dX1_makeDaring_40 ?_
      refine zk_iloadn hx hb dX1_makeDaring_41 rfl (lv_at hl 2 rfl) ?_
      refine zk_iastN hx hb hK hP hD hS 1 0 0 rfl rfl (N := 3305) ⟨by decide, by decide⟩ (zm_t0 _ _ _) hf dX1_makeDaring_42 (fun s4 H locs hf hP hS => ?_)
      refine zk_iloadn hx hb dX1_makeDaring_43 rfl (lv_at hl 2 rfl) ?_
      exact zk_iret hx hb hr hlk (zk_p1 hf) (zk_pB hf hP) hS dX1_makeDaring_44
    · refine zk_bipush hx hb dX1_makeDaring_26 (by decide) ?_
      exact zk_iret hx hb hr hlk (zk_p1 hf) (zk_pB hf hP) hS dX1_makeDaring_28
  · refine zk_bipush hx hb dX1_makeDaring_12 (by decide) ?_
    exact zk_iret hx hb hr hlk (zk_p1 hf) (zk_pB hf hP) hS dX1_makeDaring_14
abbrev zw_X1_raise_rm : Room := { frames := 3, cells := 0, slots := 0, locals := 79 }
abbrev zw_X1_raise_vs (o : Nat) (p1 p2 : Int) : List Value := [.ref o, zk_I p1, zk_I p2]
set_option maxHeartbeats 4000000 in
set_option maxRecDepth 100000 in
theorem zw_X1_raise (l : Launch) {D : va_G} {o : Nat} {a : Nat → Nat} {dA : Nat → ClassId} {A : Nat → Prop} (hD : ∀ τ, va_D A (zm_P o a dA τ)) (N : Nat) (p1 p2 : Int) (σ : ZS) (r : Int) (σ' : ZS) (hf : zm_raise N p1 p2 σ = some (r, σ')) : zk_MW l yX1_raise (ws_ yX1_raise cX1_raise 3 (Option.some Jvm.ClassFile.FieldType.int)) zw_X1_raise_rm D zk_cl (zk_ty dA) A (zw_X1_raise_vs o p1 p2) (zm_P o a dA σ) (zm_P o a dA σ') (some (zk_I r)) := by
  refine zk_startW (by decide +kernel) (Nat.le_of_ble_eq_true rfl) (fun p e s m below meth c H locs ls hx hb hr hlk hml hown hts hKX hP hS hl => ?_)
  have hl : lv_has ls 3 [(0, .ref o), (1, zk_I p1), (2, zk_I p2)] := hl
  have hK := hKX.1
  have hown : s.vm.findClass RX1 = some m.cls := hown
  have hf : zm_raise N p1 p2 σ = some (r, σ') := hf
  refine lv_aload_n hx hb dX1_raise_0 rfl (lv_at hl 0 rfl) ?_
  refine zk_iloadn hx hb dX1_raise_1 rfl (lv_at hl 1 rfl) ?_
  obtain ⟨v1, hq, hf⟩ := zk_bs hf
  refine zk_callVR (As := [zk_I p1]) (rest := []) ⟨hx, hb, hml, hown, hts⟩ (zw_X1_isOne l p1 σ _ hq) (cwV 1 hts (lw_V q1127 q1129 qs52 q88 q1130) rfl rfl rfl (by decide +kernel) ⟨Nat.le_of_ble_eq_true rfl, Nat.le_of_ble_eq_true rfl⟩) hKX hP hS (va_recv hK hP (ci := 1) (q0 := 0) rfl rfl) rfl hl.1 rfl (Nat.le_of_ble_eq_true rfl) dX1_raise_2 ⟨Nat.le_of_ble_eq_true rfl, Nat.le_of_ble_eq_true rfl⟩ (fun H locs hP hS => ?_)
  refine zk_if_eq (tgt := 39) hx hb dX1_raise_5 (by decide) hf (fun h => h) (fun hf => ?_) (fun hf => ?_)
  · refine zk_iconst hx hb dX1_raise_39 ?_
    exact zk_iret hx hb hr hlk (zk_p1 hf) (zk_pB hf hP) hS dX1_raise_40
  · refine zk_iloadn hx hb dX1_raise_8 rfl (lv_at hl 2 rfl) ?_
    refine zk_ri2l hx hb dX1_raise_9 hf (fun hf => ?_)
    refine zk_lconst (v := 1) hx hb dX1_raise_10 rfl ?_
    refine zk_ldc2 hx hb 9 hown (hts _ q1188) rfl dX1_raise_11 ?_
    obtain ⟨v2, hq, hf⟩ := zk_bs hf
    refine zk_callSS (As := [zk_L p2, zk_L 1, zk_L 9]) (rest := []) ⟨hx, hb, hml, hown, hts⟩ (zw_X1_in l p2 1 9 _ hq) (va_cwS 3 hts (lw_S q1027 q1028 q88 q1029) rfl rfl rfl (by decide +kernel) ⟨Nat.le_of_ble_eq_true rfl, Nat.le_of_ble_eq_true rfl⟩) hP hS rfl hl.1 rfl (Nat.le_of_ble_eq_true rfl) dX1_raise_14 ⟨Nat.le_of_ble_eq_true rfl, Nat.le_of_ble_eq_true rfl⟩ (fun H locs hP hS => ?_)
    refine zk_if_eq (tgt := 39) hx hb dX1_raise_17 (by decide) hf (fun h => h) (fun hf => ?_) (fun hf => ?_)
    · refine zk_iconst hx hb dX1_raise_39 ?_
      exact zk_iret hx hb hr hlk (zk_p1 hf) (zk_pB hf hP) hS dX1_raise_40
    · refine lv_aload_n hx hb dX1_raise_20 rfl (lv_at hl 0 rfl) ?_
      refine zk_iloadn hx hb dX1_raise_21 rfl (lv_at hl 1 rfl) ?_
      refine lv_aload_n hx hb dX1_raise_22 rfl (lv_at hl 0 rfl) ?_
      refine zm_rget hx hb hts hown hK hP 0 (by decide) q949 rfl dX1_raise_23 ?_
      refine zk_bipush hx hb dX1_raise_26 (by decide) ?_
      refine zk_iloadn hx hb dX1_raise_28 rfl (lv_at hl 1 rfl) ?_
      refine zk_iadd hx hb dX1_raise_29 ?_
      refine zk_iald hx hb hK hP 1 0 rfl rfl (N := 3305) ⟨by decide, by decide⟩ hf dX1_raise_30 (fun hf => ?_)
      refine zk_iloadn hx hb dX1_raise_31 rfl (lv_at hl 2 rfl) ?_
      refine zk_iadd hx hb dX1_raise_32 ?_
      obtain ⟨v3, s4, hq, hf⟩ := zk_b2s hf
      refine zk_callVW (As := [zk_I p1, zk_I (σ 0 (9 + p1) + p2)]) (rest := []) ⟨hx, hb, hml, hown, hts⟩ (zw_X1_makeDaring l hD N p1 (σ 0 (9 + p1) + p2) σ _ _ hq) (cwV 2 hts (lw_V q1189 q1191 qs62 q88 q1192) rfl rfl rfl (by decide +kernel) ⟨Nat.le_of_ble_eq_true rfl, Nat.le_of_ble_eq_true rfl⟩) hKX hP hS (va_recv hK hP (ci := 1) (q0 := 0) rfl rfl) rfl hl.1 rfl (Nat.le_of_ble_eq_true rfl) dX1_raise_33 ⟨Nat.le_of_ble_eq_true rfl, Nat.le_of_ble_eq_true rfl⟩ (fun H locs hP hS => ?_)
      refine lv_goto (tgt := 40) hx hb dX1_raise_36 (by decide) ?_
      exact zk_iret hx hb hr hlk (zk_p1 hf) (zk_pB hf hP) hS dX1_raise_40
abbrev zw_X1_shame_rm : Room := { frames := 3, cells := 0, slots := 0, locals := 79 }
abbrev zw_X1_shame_vs (o : Nat) (p1 p2 : Int) : List Value := [.ref o, zk_I p1, zk_I p2]
set_option maxHeartbeats 4000000 in
set_option maxRecDepth 100000 in
theorem zw_X1_shame (l : Launch) {D : va_G} {o : Nat} {a : Nat → Nat} {dA : Nat → ClassId} {A : Nat → Prop} (hD : ∀ τ, va_D A (zm_P o a dA τ)) (N : Nat) (p1 p2 : Int) (σ : ZS) (r : Int) (σ' : ZS) (hf : zm_shame N p1 p2 σ = some (r, σ')) : zk_MW l yX1_shame (ws_ yX1_shame cX1_shame 3 (Option.some Jvm.ClassFile.FieldType.int)) zw_X1_shame_rm D zk_cl (zk_ty dA) A (zw_X1_shame_vs o p1 p2) (zm_P o a dA σ) (zm_P o a dA σ') (some (zk_I r)) := by
  refine zk_startW (by decide +kernel) (Nat.le_of_ble_eq_true rfl) (fun p e s m below meth c H locs ls hx hb hr hlk hml hown hts hKX hP hS hl => ?_)
  have hl : lv_has ls 3 [(0, .ref o), (1, zk_I p1), (2, zk_I p2)] := hl
  have hK := hKX.1
  have hown : s.vm.findClass RX1 = some m.cls := hown
  have hf : zm_shame N p1 p2 σ = some (r, σ') := hf
  refine lv_aload_n hx hb dX1_shame_0 rfl (lv_at hl 0 rfl) ?_
  refine zk_iloadn hx hb dX1_shame_1 rfl (lv_at hl 1 rfl) ?_
  obtain ⟨v1, hq, hf⟩ := zk_bs hf
  refine zk_callVR (As := [zk_I p1]) (rest := []) ⟨hx, hb, hml, hown, hts⟩ (zw_X1_isOne l p1 σ _ hq) (cwV 1 hts (lw_V q1127 q1129 qs52 q88 q1130) rfl rfl rfl (by decide +kernel) ⟨Nat.le_of_ble_eq_true rfl, Nat.le_of_ble_eq_true rfl⟩) hKX hP hS (va_recv hK hP (ci := 1) (q0 := 0) rfl rfl) rfl hl.1 rfl (Nat.le_of_ble_eq_true rfl) dX1_shame_2 ⟨Nat.le_of_ble_eq_true rfl, Nat.le_of_ble_eq_true rfl⟩ (fun H locs hP hS => ?_)
  refine zk_if_eq (tgt := 39) hx hb dX1_shame_5 (by decide) hf (fun h => h) (fun hf => ?_) (fun hf => ?_)
  · refine zk_iconst hx hb dX1_shame_39 ?_
    exact zk_iret hx hb hr hlk (zk_p1 hf) (zk_pB hf hP) hS dX1_shame_40
  · refine zk_iloadn hx hb dX1_shame_8 rfl (lv_at hl 2 rfl) ?_
    refine zk_ri2l hx hb dX1_shame_9 hf (fun hf => ?_)
    refine zk_lconst (v := 1) hx hb dX1_shame_10 rfl ?_
    refine zk_ldc2 hx hb 9 hown (hts _ q1188) rfl dX1_shame_11 ?_
    obtain ⟨v2, hq, hf⟩ := zk_bs hf
    refine zk_callSS (As := [zk_L p2, zk_L 1, zk_L 9]) (rest := []) ⟨hx, hb, hml, hown, hts⟩ (zw_X1_in l p2 1 9 _ hq) (va_cwS 3 hts (lw_S q1027 q1028 q88 q1029) rfl rfl rfl (by decide +kernel) ⟨Nat.le_of_ble_eq_true rfl, Nat.le_of_ble_eq_true rfl⟩) hP hS rfl hl.1 rfl (Nat.le_of_ble_eq_true rfl) dX1_shame_14 ⟨Nat.le_of_ble_eq_true rfl, Nat.le_of_ble_eq_true rfl⟩ (fun H locs hP hS => ?_)
    refine zk_if_eq (tgt := 39) hx hb dX1_shame_17 (by decide) hf (fun h => h) (fun hf => ?_) (fun hf => ?_)
    · refine zk_iconst hx hb dX1_shame_39 ?_
      exact zk_iret hx hb hr hlk (zk_p1 hf) (zk_pB hf hP) hS dX1_shame_40
    · refine lv_aload_n hx hb dX1_shame_20 rfl (lv_at hl 0 rfl) ?_
      refine zk_iloadn hx hb dX1_shame_21 rfl (lv_at hl 1 rfl) ?_
      refine lv_aload_n hx hb dX1_shame_22 rfl (lv_at hl 0 rfl) ?_
      refine zm_rget hx hb hts hown hK hP 0 (by decide) q949 rfl dX1_shame_23 ?_
      refine zk_bipush hx hb dX1_shame_26 (by decide) ?_
      refine zk_iloadn hx hb dX1_shame_28 rfl (lv_at hl 1 rfl) ?_
      refine zk_iadd hx hb dX1_shame_29 ?_
      refine zk_iald hx hb hK hP 1 0 rfl rfl (N := 3305) ⟨by decide, by decide⟩ hf dX1_shame_30 (fun hf => ?_)
      refine zk_iloadn hx hb dX1_shame_31 rfl (lv_at hl 2 rfl) ?_
      refine zk_isub hx hb dX1_shame_32 ?_
      obtain ⟨v3, s4, hq, hf⟩ := zk_b2s hf
      refine zk_callVW (As := [zk_I p1, zk_I (σ 0 (9 + p1) - p2)]) (rest := []) ⟨hx, hb, hml, hown, hts⟩ (zw_X1_makeDaring l hD N p1 (σ 0 (9 + p1) - p2) σ _ _ hq) (cwV 2 hts (lw_V q1189 q1191 qs62 q88 q1192) rfl rfl rfl (by decide +kernel) ⟨Nat.le_of_ble_eq_true rfl, Nat.le_of_ble_eq_true rfl⟩) hKX hP hS (va_recv hK hP (ci := 1) (q0 := 0) rfl rfl) rfl hl.1 rfl (Nat.le_of_ble_eq_true rfl) dX1_shame_33 ⟨Nat.le_of_ble_eq_true rfl, Nat.le_of_ble_eq_true rfl⟩ (fun H locs hP hS => ?_)
      refine lv_goto (tgt := 40) hx hb dX1_shame_36 (by decide) ?_
      exact zk_iret hx hb hr hlk (zk_p1 hf) (zk_pB hf hP) hS dX1_shame_40
abbrev zw_X1_door_rm : Room := { frames := 3, cells := 0, slots := 0, locals := 78 }
abbrev zw_X1_door_vs (o : Nat) (p1 p2 : Int) : List Value := [.ref o, zk_I p1, zk_I p2]
set_option maxHeartbeats 4000000 in
set_option maxRecDepth 100000 in
theorem zw_X1_door (l : Launch) {D : va_G} {o : Nat} {a : Nat → Nat} {dA : Nat → ClassId} {A : Nat → Prop} (hD : ∀ τ, va_D A (zm_P o a dA τ)) (N : Nat) (p1 p2 : Int) (σ : ZS) (r : Int) (σ' : ZS) (hf : zm_door N p1 p2 σ = some (r, σ')) : zk_MW l yX1_door (ws_ yX1_door cX1_door 4 (Option.some Jvm.ClassFile.FieldType.int)) zw_X1_door_rm D zk_cl (zk_ty dA) A (zw_X1_door_vs o p1 p2) (zm_P o a dA σ) (zm_P o a dA σ') (some (zk_I r)) := by
  refine zk_startW (by decide +kernel) (Nat.le_of_ble_eq_true rfl) (fun p e s m below meth c H locs ls hx hb hr hlk hml hown hts hKX hP hS hl => ?_)
  have hl : lv_has ls 4 [(0, .ref o), (1, zk_I p1), (2, zk_I p2)] := hl
  have hK := hKX.1
  have hown : s.vm.findClass RX1 = some m.cls := hown
  have hf : zm_door N p1 p2 σ = some (r, σ') := hf
  refine lv_aload_n hx hb dX1_door_0 rfl (lv_at hl 0 rfl) ?_
  refine zk_iloadn hx hb dX1_door_1 rfl (lv_at hl 1 rfl) ?_
  obtain ⟨v1, hq, hf⟩ := zk_bs hf
  refine zk_callVR (As := [zk_I p1]) (rest := []) ⟨hx, hb, hml, hown, hts⟩ (zw_X1_isOne l p1 σ _ hq) (cwV 1 hts (lw_V q1127 q1129 qs52 q88 q1130) rfl rfl rfl (by decide +kernel) ⟨Nat.le_of_ble_eq_true rfl, Nat.le_of_ble_eq_true rfl⟩) hKX hP hS (va_recv hK hP (ci := 1) (q0 := 0) rfl rfl) rfl hl.1 rfl (Nat.le_of_ble_eq_true rfl) dX1_door_2 ⟨Nat.le_of_ble_eq_true rfl, Nat.le_of_ble_eq_true rfl⟩ (fun H locs hP hS => ?_)
  refine zk_if_eq (tgt := 20) hx hb dX1_door_5 (by decide) hf (fun h => h) (fun hf => ?_) (fun hf => ?_)
  · refine zk_iconst hx hb dX1_door_20 ?_
    exact zk_iret hx hb hr hlk (zk_p1 hf) (zk_pB hf hP) hS dX1_door_21
  · refine zk_iloadn hx hb dX1_door_8 rfl (lv_at hl 2 rfl) ?_
    refine zk_ri2l hx hb dX1_door_9 hf (fun hf => ?_)
    refine zk_lconst (v := 0) hx hb dX1_door_10 rfl ?_
    refine zk_ldc2 hx hb 9 hown (hts _ q1188) rfl dX1_door_11 ?_
    obtain ⟨v2, hq, hf⟩ := zk_bs hf
    refine zk_callSS (As := [zk_L p2, zk_L 0, zk_L 9]) (rest := []) ⟨hx, hb, hml, hown, hts⟩ (zw_X1_in l p2 0 9 _ hq) (va_cwS 3 hts (lw_S q1027 q1028 q88 q1029) rfl rfl rfl (by decide +kernel) ⟨Nat.le_of_ble_eq_true rfl, Nat.le_of_ble_eq_true rfl⟩) hP hS rfl hl.1 rfl (Nat.le_of_ble_eq_true rfl) dX1_door_14 ⟨Nat.le_of_ble_eq_true rfl, Nat.le_of_ble_eq_true rfl⟩ (fun H locs hP hS => ?_)
    refine zk_if_ne (tgt := 22) hx hb dX1_door_17 (by decide) hf (fun h => h) (fun hf => ?_) (fun hf => ?_)
    · refine lv_aload_n hx hb dX1_door_22 rfl (lv_at hl 0 rfl) ?_
      refine zm_rget hx hb hts hown hK hP 0 (by decide) q949 rfl dX1_door_23 ?_
      refine zk_iconst hx hb dX1_door_26 ?_
      refine zk_iloadn hx hb dX1_door_27 rfl (lv_at hl 1 rfl) ?_
      refine zk_iadd hx hb dX1_door_28 ?_
      refine zk_iald hx hb hK hP 1 0 rfl rfl (N := 3305) ⟨by decide, by decide⟩ hf dX1_door_29 (fun hf => ?_)
      refine zk_istorenN (lv' := fun x3_3 => [(3, zk_I x3_3), (0, .ref o), (1, zk_I p1), (2, zk_I p2)]) hx hb dX1_door_30 rfl hl (by decide) (fun _ => rfl) hf (fun x3_3 hf ls hl => ?_)
      refine zk_iloadn hx hb dX1_door_31 rfl (lv_at hl 0 rfl) ?_
      refine zk_iloadn hx hb dX1_door_32 rfl (lv_at hl 3 rfl) ?_
      refine zk_icmp_ne (tgt := 39) hx hb dX1_door_33 (by decide) hf (fun h => h) (fun hf => ?_) (fun hf => ?_)
      · refine lv_aload_n hx hb dX1_door_39 rfl (lv_at hl 1 rfl) ?_
        refine zm_rget hx hb hts hown hK hP 0 (by decide) q949 rfl dX1_door_40 ?_
        refine zk_iconst hx hb dX1_door_43 ?_
        refine zk_iald hx hb hK hP 1 0 rfl rfl (N := 3305) ⟨by decide, by decide⟩ hf dX1_door_44 (fun hf => ?_)
        refine zk_bipush hx hb dX1_door_45 (by decide) ?_
        refine zk_icmp_ne (tgt := 53) hx hb dX1_door_47 (by decide) hf (fun h => ⟨h, by decide⟩) (fun hf => ?_) (fun hf => ?_)
        · refine lv_aload_n hx hb dX1_door_53 rfl (lv_at hl 1 rfl) ?_
          obtain ⟨v4, s5, hq, hf⟩ := zk_b2s hf
          refine zk_callVW (As := []) (rest := []) ⟨hx, hb, hml, hown, hts⟩ (zw_X1_keepPast l hD N  σ _ _ hq) (cwV 0 hts (lw_V q1165 q1167 qs58 q88 q1168) rfl rfl rfl (by decide +kernel) ⟨Nat.le_of_ble_eq_true rfl, Nat.le_of_ble_eq_true rfl⟩) hKX hP hS (va_recv hK hP (ci := 1) (q0 := 0) rfl rfl) rfl hl.1 rfl (Nat.le_of_ble_eq_true rfl) dX1_door_54 ⟨Nat.le_of_ble_eq_true rfl, Nat.le_of_ble_eq_true rfl⟩ (fun H locs hP hS => ?_)
          refine lv_aload_n hx hb dX1_door_57 rfl (lv_at hl 1 rfl) ?_
          refine zm_rget hx hb hts hown hK hP 0 (by decide) q949 rfl dX1_door_58 ?_
          refine zk_iconst hx hb dX1_door_61 ?_
          refine zk_iloadn hx hb dX1_door_62 rfl (lv_at hl 2 rfl) ?_
          refine zk_iadd hx hb dX1_door_63 ?_
          refine zk_iloadn hx hb dX1_door_64 rfl (lv_at hl 3 rfl) ?_
          refine zk_iastN hx hb hK hP hD hS 1 0 0 rfl rfl (N := 3305) ⟨by decide, by decide⟩ (zm_t0 _ _ _) hf dX1_door_65 (fun s6 H locs hf hP hS => ?_)
          refine zk_iloadn hx hb dX1_door_66 rfl (lv_at hl 0 rfl) ?_
          exact zk_iret hx hb hr hlk (zk_p1 hf) (zk_pB hf hP) hS dX1_door_67
        · refine zk_bipush hx hb dX1_door_50 (by decide) ?_
          exact zk_iret hx hb hr hlk (zk_p1 hf) (zk_pB hf hP) hS dX1_door_52
      · refine zk_bipush hx hb dX1_door_36 (by decide) ?_
        exact zk_iret hx hb hr hlk (zk_p1 hf) (zk_pB hf hP) hS dX1_door_38
    · refine zk_iconst hx hb dX1_door_20 ?_
      exact zk_iret hx hb hr hlk (zk_p1 hf) (zk_pB hf hP) hS dX1_door_21
abbrev zw_X1_undo_rm : Room := { frames := 2, cells := 0, slots := 0, locals := 57 }
abbrev zw_X1_undo_vs (o : Nat) (p1 : Int) : List Value := [.ref o, zk_I p1]
set_option maxHeartbeats 4000000 in
set_option maxRecDepth 100000 in
theorem zw_X1_undo (l : Launch) {D : va_G} {o : Nat} {a : Nat → Nat} {dA : Nat → ClassId} {A : Nat → Prop} (hD : ∀ τ, va_D A (zm_P o a dA τ)) (N : Nat) (p1 : Int) (σ : ZS) (r : Int) (σ' : ZS) (hf : zm_undo N p1 σ = some (r, σ')) : zk_MW l yX1_undo (ws_ yX1_undo cX1_undo 4 (Option.some Jvm.ClassFile.FieldType.int)) zw_X1_undo_rm D zk_cl (zk_ty dA) A (zw_X1_undo_vs o p1) (zm_P o a dA σ) (zm_P o a dA σ') (some (zk_I r)) := by
  refine zk_startW (by decide +kernel) (Nat.le_of_ble_eq_true rfl) (fun p e s m below meth c H locs ls hx hb hr hlk hml hown hts hKX hP hS hl => ?_)
  have hl : lv_has ls 4 [(0, .ref o), (1, zk_I p1)] := hl
  have hK := hKX.1
  have hown : s.vm.findClass RX1 = some m.cls := hown
  have hf : zm_undo N p1 σ = some (r, σ') := hf
  have hJ67 : ∀ (x1 x2 : Int) (s0 : ZS) (H : Heap) (locs : List Loc) (ls : Array Slot), zm_undo_j67 N x1 x2 s0 = some (r, σ') → lv_has ls 4 [(0, .ref o), (1, zk_I x1), (2, zk_I x2)] → va_P D zk_cl (zm_P o a dA s0) H → va_S A s.heap H locs → W p l e zw_X1_undo_rm s m (zw_X1_undo_vs o p1).toArray below meth c H locs 0 0 (MQ below (zk_Q (some (zk_I r)) (fun t => va_P D zk_cl (zm_P o a dA σ') t.heap) A) (zw_X1_undo_vs o p1).toArray s 0 0 A) (F0 m 67 ls []) := by
    intro x1 x2 s0 H locs ls hf hl hP hS
    refine lv_aload_n hx hb dX1_undo_67 rfl (lv_at hl 0 rfl) ?_
    refine zm_rget hx hb hts hown hK hP 0 (by decide) q949 rfl dX1_undo_68 ?_
    refine zk_iconst hx hb dX1_undo_71 ?_
    refine zk_iloadn hx hb dX1_undo_72 rfl (lv_at hl 1 rfl) ?_
    refine zk_iastN hx hb hK hP hD hS 1 0 0 rfl rfl (N := 3305) ⟨by decide, by decide⟩ (zm_t0 _ _ _) hf dX1_undo_73 (fun s5 H locs hf hP hS => ?_)
    refine zk_iloadn hx hb dX1_undo_74 rfl (lv_at hl 2 rfl) ?_
    exact zk_iret hx hb hr hlk (zk_p1 hf) (zk_pB hf hP) hS dX1_undo_75
  have hL29 : ∀ (n : Nat) (x1 x2 x3 : Int) (s0 : ZS) (H : Heap) (locs : List Loc) (ls : Array Slot), zk_b (zk_loop (α := Int × ZS) (β := ZS) n (fun a => zm_undo_b29 N x1 x2 a.1 a.2) (x3, s0)) (fun e => zm_undo_j67 N x1 x2 e) = some (r, σ') → lv_has ls 4 [(0, .ref o), (1, zk_I x1), (2, zk_I x2), (3, zk_I x3)] → va_P D zk_cl (zm_P o a dA s0) H → va_S A s.heap H locs → W p l e zw_X1_undo_rm s m (zw_X1_undo_vs o p1).toArray below meth c H locs 0 0 (MQ below (zk_Q (some (zk_I r)) (fun t => va_P D zk_cl (zm_P o a dA σ') t.heap) A) (zw_X1_undo_vs o p1).toArray s 0 0 A) (F0 m 29 ls []) := by
    intro n
    induction n with
    | zero => intro x1 x2 x3 s0 H locs ls hf; exact (zk_l0 hf).elim
    | succ n ih29 =>
      intro x1 x2 x3 s0 H locs ls hf hl hP hS
      obtain ⟨c29, hf, hc29⟩ := zk_ls hf
      refine zk_iloadn hx hb dX1_undo_29 rfl (lv_at hl 3 rfl) ?_
      refine zk_bipush hx hb dX1_undo_30 (by decide) ?_
      refine zk_icmp_ge (tgt := 67) hx hb dX1_undo_32 (by decide) hf (fun h => ⟨h, by decide⟩) (fun hf => ?_) (fun hf => ?_)
      · obtain rfl := zk_so hf
        exact hJ67 _ _ _ H locs ls hc29 (lv_sub hl [0, 1, 2] rfl) hP hS
      · refine zk_iloadn hx hb dX1_undo_35 rfl (lv_at hl 2 rfl) ?_
        refine zk_if_le (tgt := 67) hx hb dX1_undo_36 (by decide) hf (fun h => h) (fun hf => ?_) (fun hf => ?_)
        · obtain rfl := zk_so hf
          exact hJ67 _ _ _ H locs ls hc29 (lv_sub hl [0, 1, 2] rfl) hP hS
        · refine lv_aload_n hx hb dX1_undo_39 rfl (lv_at hl 0 rfl) ?_
          refine zm_rget hx hb hts hown hK hP 0 (by decide) q949 rfl dX1_undo_40 ?_
          refine zk_iconst hx hb dX1_undo_43 ?_
          refine zk_iloadn hx hb dX1_undo_44 rfl (lv_at hl 3 rfl) ?_
          refine zk_iadd hx hb dX1_undo_45 ?_
          refine lv_aload_n hx hb dX1_undo_46 rfl (lv_at hl 0 rfl) ?_
          refine zm_rget hx hb hts hown hK hP 0 (by decide) q949 rfl dX1_undo_47 ?_
          refine zk_bipush hx hb dX1_undo_50 (by decide) ?_
          refine zk_bipush hx hb dX1_undo_52 (by decide) ?_
          refine zk_iloadn hx hb dX1_undo_54 rfl (lv_at hl 1 rfl) ?_
          refine zk_imul hx hb dX1_undo_55 ?_
          refine zk_iadd hx hb dX1_undo_56 ?_
          refine zk_iloadn hx hb dX1_undo_57 rfl (lv_at hl 3 rfl) ?_
          refine zk_iadd hx hb dX1_undo_58 ?_
          refine zk_iald hx hb hK hP 1 0 rfl rfl (N := 3305) ⟨by decide, by decide⟩ hf dX1_undo_59 (fun hf => ?_)
          refine zk_iastN hx hb hK hP hD hS 1 0 0 rfl rfl (N := 3305) ⟨by decide, by decide⟩ (zm_t0 _ _ _) hf dX1_undo_60 (fun s3 H locs hf hP hS => ?_)
          refine zk_iincN (lv' := fun x3_4 => [(3, zk_I x3_4), (0, .ref o), (1, zk_I x1), (2, zk_I x2)]) hx hb dX1_undo_61 hl (k := 3) rfl (by decide) (fun _ => rfl) hf (fun x3_4 hf ls hl => ?_)
          refine lv_goto (tgt := 29) hx hb dX1_undo_64 (by decide) ?_
          obtain rfl := zk_so hf
          exact ih29 _ _ _ _ H locs ls hc29 (lv_sub hl [1, 2, 3, 0] rfl) hP hS
  refine zk_iloadn hx hb dX1_undo_0 rfl (lv_at hl 1 rfl) ?_
  refine zk_ri2l hx hb dX1_undo_1 hf (fun hf => ?_)
  refine zk_lconst (v := 0) hx hb dX1_undo_2 rfl ?_
  refine lv_aload_n hx hb dX1_undo_3 rfl (lv_at hl 0 rfl) ?_
  refine zm_rget hx hb hts hown hK hP 0 (by decide) q949 rfl dX1_undo_4 ?_
  refine zk_iconst hx hb dX1_undo_7 ?_
  refine zk_iald hx hb hK hP 1 0 rfl rfl (N := 3305) ⟨by decide, by decide⟩ hf dX1_undo_8 (fun hf => ?_)
  refine zk_ri2l hx hb dX1_undo_9 hf (fun hf => ?_)
  obtain ⟨v1, hq, hf⟩ := zk_bs hf
  refine zk_callSS (As := [zk_L p1, zk_L 0, zk_L (σ 0 0)]) (rest := []) ⟨hx, hb, hml, hown, hts⟩ (zw_X1_in l p1 0 (σ 0 0) _ hq) (va_cwS 3 hts (lw_S q1027 q1028 q88 q1029) rfl rfl rfl (by decide +kernel) ⟨Nat.le_of_ble_eq_true rfl, Nat.le_of_ble_eq_true rfl⟩) hP hS rfl hl.1 rfl (Nat.le_of_ble_eq_true rfl) dX1_undo_10 ⟨Nat.le_of_ble_eq_true rfl, Nat.le_of_ble_eq_true rfl⟩ (fun H locs hP hS => ?_)
  refine zk_if_ne (tgt := 18) hx hb dX1_undo_13 (by decide) hf (fun h => h) (fun hf => ?_) (fun hf => ?_)
  · refine lv_aload_n hx hb dX1_undo_18 rfl (lv_at hl 0 rfl) ?_
    refine zm_rget hx hb hts hown hK hP 0 (by decide) q949 rfl dX1_undo_19 ?_
    refine zk_iconst hx hb dX1_undo_22 ?_
    refine zk_iald hx hb hK hP 1 0 rfl rfl (N := 3305) ⟨by decide, by decide⟩ hf dX1_undo_23 (fun hf => ?_)
    refine zk_iloadn hx hb dX1_undo_24 rfl (lv_at hl 1 rfl) ?_
    refine zk_isub hx hb dX1_undo_25 ?_
    refine zk_istorenN (lv' := fun x2_2 => [(2, zk_I x2_2), (0, .ref o), (1, zk_I p1)]) hx hb dX1_undo_26 rfl hl (by decide) (fun _ => rfl) hf (fun x2_2 hf ls hl => ?_)
    refine zk_iconst hx hb dX1_undo_27 ?_
    refine lv_istore_n (lv' := [(3, zk_I 0), (2, zk_I x2_2), (0, .ref o), (1, zk_I p1)]) hx hb dX1_undo_28 rfl hl (by decide) rfl (fun ls hl => ?_)
    exact hL29 N _ _ _ _ H locs ls hf (lv_sub hl [2, 3, 1, 0] rfl) hP hS
  · refine zk_iconst hx hb dX1_undo_16 ?_
    exact zk_iret hx hb hr hlk (zk_p1 hf) (zk_pB hf hP) hS dX1_undo_17
abbrev zw_X1_copyRiver_rm : Room := { frames := 1, cells := 0, slots := 0, locals := 32 }
abbrev zw_X1_copyRiver_vs (o : Nat) (p1 p2 : Int) : List Value := [.ref o, zk_I p1, zk_I p2]
set_option maxHeartbeats 4000000 in
set_option maxRecDepth 100000 in
theorem zw_X1_copyRiver (l : Launch) {D : va_G} {o : Nat} {a : Nat → Nat} {dA : Nat → ClassId} {A : Nat → Prop} (hD : ∀ τ, va_D A (zm_P o a dA τ)) (N : Nat) (p1 p2 : Int) (σ : ZS) (r : Int) (σ' : ZS) (hf : zm_copyRiver N p1 p2 σ = some (r, σ')) : zk_MW l yX1_copyRiver (ws_ yX1_copyRiver cX1_copyRiver 4 (Option.none : Option Jvm.ClassFile.FieldType)) zw_X1_copyRiver_rm D zk_cl (zk_ty dA) A (zw_X1_copyRiver_vs o p1 p2) (zm_P o a dA σ) (zm_P o a dA σ') none := by
  refine zk_startW (by decide +kernel) (Nat.le_of_ble_eq_true rfl) (fun p e s m below meth c H locs ls hx hb hr hlk hml hown hts hKX hP hS hl => ?_)
  have hl : lv_has ls 4 [(0, .ref o), (1, zk_I p1), (2, zk_I p2)] := hl
  have hK := hKX.1
  have hown : s.vm.findClass RX1 = some m.cls := hown
  have hf : zm_copyRiver N p1 p2 σ = some (r, σ') := hf
  have hJ31 : ∀ (s0 : ZS) (H : Heap) (locs : List Loc) (ls : Array Slot), zm_copyRiver_j31 N  s0 = some (r, σ') → lv_has ls 4 [] → va_P D zk_cl (zm_P o a dA s0) H → va_S A s.heap H locs → W p l e zw_X1_copyRiver_rm s m (zw_X1_copyRiver_vs o p1 p2).toArray below meth c H locs 0 0 (MQ below (zk_Q none (fun t => va_P D zk_cl (zm_P o a dA σ') t.heap) A) (zw_X1_copyRiver_vs o p1 p2).toArray s 0 0 A) (F0 m 31 ls []) := by
    intro s0 H locs ls hf hl hP hS
    exact zk_vret hx hb hr hlk (zk_pB hf hP) hS dX1_copyRiver_31
  have hL2 : ∀ (n : Nat) (x1 x2 x3 : Int) (s0 : ZS) (H : Heap) (locs : List Loc) (ls : Array Slot), zk_b (zk_loop (α := Int × ZS) (β := ZS) n (fun a => zm_copyRiver_b2 N x1 x2 a.1 a.2) (x3, s0)) (fun e => zm_copyRiver_j31 N e) = some (r, σ') → lv_has ls 4 [(0, .ref o), (1, zk_I x1), (2, zk_I x2), (3, zk_I x3)] → va_P D zk_cl (zm_P o a dA s0) H → va_S A s.heap H locs → W p l e zw_X1_copyRiver_rm s m (zw_X1_copyRiver_vs o p1 p2).toArray below meth c H locs 0 0 (MQ below (zk_Q none (fun t => va_P D zk_cl (zm_P o a dA σ') t.heap) A) (zw_X1_copyRiver_vs o p1 p2).toArray s 0 0 A) (F0 m 2 ls []) := by
    intro n
    induction n with
    | zero => intro x1 x2 x3 s0 H locs ls hf; exact (zk_l0 hf).elim
    | succ n ih2 =>
      intro x1 x2 x3 s0 H locs ls hf hl hP hS
      obtain ⟨c2, hf, hc2⟩ := zk_ls hf
      refine zk_iloadn hx hb dX1_copyRiver_2 rfl (lv_at hl 3 rfl) ?_
      refine zk_sipush hx hb dX1_copyRiver_3 (by decide) ?_
      refine zk_icmp_ge (tgt := 31) hx hb dX1_copyRiver_6 (by decide) hf (fun h => ⟨h, by decide⟩) (fun hf => ?_) (fun hf => ?_)
      · obtain rfl := zk_so hf
        exact hJ31 _ H locs ls hc2 (lv_sub hl [] rfl) hP hS
      · refine lv_aload_n hx hb dX1_copyRiver_9 rfl (lv_at hl 0 rfl) ?_
        refine zm_rget hx hb hts hown hK hP 0 (by decide) q949 rfl dX1_copyRiver_10 ?_
        refine zk_iloadn hx hb dX1_copyRiver_13 rfl (lv_at hl 2 rfl) ?_
        refine zk_iloadn hx hb dX1_copyRiver_14 rfl (lv_at hl 3 rfl) ?_
        refine zk_iadd hx hb dX1_copyRiver_15 ?_
        refine lv_aload_n hx hb dX1_copyRiver_16 rfl (lv_at hl 0 rfl) ?_
        refine zm_rget hx hb hts hown hK hP 0 (by decide) q949 rfl dX1_copyRiver_17 ?_
        refine zk_iloadn hx hb dX1_copyRiver_20 rfl (lv_at hl 1 rfl) ?_
        refine zk_iloadn hx hb dX1_copyRiver_21 rfl (lv_at hl 3 rfl) ?_
        refine zk_iadd hx hb dX1_copyRiver_22 ?_
        refine zk_iald hx hb hK hP 1 0 rfl rfl (N := 3305) ⟨by decide, by decide⟩ hf dX1_copyRiver_23 (fun hf => ?_)
        refine zk_iastN hx hb hK hP hD hS 1 0 0 rfl rfl (N := 3305) ⟨by decide, by decide⟩ (zm_t0 _ _ _) hf dX1_copyRiver_24 (fun s1 H locs hf hP hS => ?_)
        refine zk_iincN (lv' := fun x3_2 => [(3, zk_I x3_2), (0, .ref o), (1, zk_I x1), (2, zk_I x2)]) hx hb dX1_copyRiver_25 hl (k := 3) rfl (by decide) (fun _ => rfl) hf (fun x3_2 hf ls hl => ?_)
        refine lv_goto (tgt := 2) hx hb dX1_copyRiver_28 (by decide) ?_
        obtain rfl := zk_so hf
        exact ih2 _ _ _ _ H locs ls hc2 (lv_sub hl [1, 2, 3, 0] rfl) hP hS
  refine zk_iconst hx hb dX1_copyRiver_0 ?_
  refine lv_istore_n (lv' := [(3, zk_I 0), (0, .ref o), (1, zk_I p1), (2, zk_I p2)]) hx hb dX1_copyRiver_1 rfl hl (by decide) rfl (fun ls hl => ?_)
  exact hL2 N _ _ _ _ H locs ls hf (lv_sub hl [1, 2, 3, 0] rfl) hP hS
abbrev zw_X1_keep_rm : Room := { frames := 2, cells := 0, slots := 0, locals := 57 }
abbrev zw_X1_keep_vs (o : Nat) (p1 : Int) : List Value := [.ref o, zk_I p1]
set_option maxHeartbeats 4000000 in
set_option maxRecDepth 100000 in
theorem zw_X1_keep (l : Launch) {D : va_G} {o : Nat} {a : Nat → Nat} {dA : Nat → ClassId} {A : Nat → Prop} (hD : ∀ τ, va_D A (zm_P o a dA τ)) (N : Nat) (p1 : Int) (σ : ZS) (r : Int) (σ' : ZS) (hf : zm_keep N p1 σ = some (r, σ')) : zk_MW l yX1_keep (ws_ yX1_keep cX1_keep 2 (Option.some Jvm.ClassFile.FieldType.int)) zw_X1_keep_rm D zk_cl (zk_ty dA) A (zw_X1_keep_vs o p1) (zm_P o a dA σ) (zm_P o a dA σ') (some (zk_I r)) := by
  refine zk_startW (by decide +kernel) (Nat.le_of_ble_eq_true rfl) (fun p e s m below meth c H locs ls hx hb hr hlk hml hown hts hKX hP hS hl => ?_)
  have hl : lv_has ls 2 [(0, .ref o), (1, zk_I p1)] := hl
  have hK := hKX.1
  have hown : s.vm.findClass RX1 = some m.cls := hown
  have hf : zm_keep N p1 σ = some (r, σ') := hf
  refine zk_iloadn hx hb dX1_keep_0 rfl (lv_at hl 1 rfl) ?_
  refine zk_ri2l hx hb dX1_keep_1 hf (fun hf => ?_)
  refine zk_lconst (v := 0) hx hb dX1_keep_2 rfl ?_
  refine zk_ldc2 hx hb 2 hown (hts _ q1210) rfl dX1_keep_3 ?_
  obtain ⟨v1, hq, hf⟩ := zk_bs hf
  refine zk_callSS (As := [zk_L p1, zk_L 0, zk_L 2]) (rest := []) ⟨hx, hb, hml, hown, hts⟩ (zw_X1_in l p1 0 2 _ hq) (va_cwS 3 hts (lw_S q1027 q1028 q88 q1029) rfl rfl rfl (by decide +kernel) ⟨Nat.le_of_ble_eq_true rfl, Nat.le_of_ble_eq_true rfl⟩) hP hS rfl hl.1 rfl (Nat.le_of_ble_eq_true rfl) dX1_keep_6 ⟨Nat.le_of_ble_eq_true rfl, Nat.le_of_ble_eq_true rfl⟩ (fun H locs hP hS => ?_)
  refine zk_if_ne (tgt := 14) hx hb dX1_keep_9 (by decide) hf (fun h => h) (fun hf => ?_) (fun hf => ?_)
  · refine lv_aload_n hx hb dX1_keep_14 rfl (lv_at hl 0 rfl) ?_
    refine zm_rget hx hb hts hown hK hP 1 (by decide) q950 rfl dX1_keep_15 ?_
    refine zk_if_ne (tgt := 24) hx hb dX1_keep_18 (by decide) hf (fun h => h) (fun hf => ?_) (fun hf => ?_)
    · refine lv_aload_n hx hb dX1_keep_24 rfl (lv_at hl 0 rfl) ?_
      refine zk_iconst hx hb dX1_keep_25 ?_
      refine zk_sipush hx hb dX1_keep_26 (by decide) ?_
      refine zk_iconst hx hb dX1_keep_29 ?_
      refine zk_iloadn hx hb dX1_keep_30 rfl (lv_at hl 1 rfl) ?_
      refine zk_iadd hx hb dX1_keep_31 ?_
      refine zk_imul hx hb dX1_keep_32 ?_
      obtain ⟨v2, s3, hq, hf⟩ := zk_b2s hf
      refine zk_callVW (As := [zk_I 0, zk_I (821 * (1 + p1))]) (rest := []) ⟨hx, hb, hml, hown, hts⟩ (zw_X1_copyRiver l hD N 0 (821 * (1 + p1)) σ _ _ hq) (cwV 2 hts (lw_V q1211 q1213 qs63 q88 q1214) rfl rfl rfl (by decide +kernel) ⟨Nat.le_of_ble_eq_true rfl, Nat.le_of_ble_eq_true rfl⟩) hKX hP hS (va_recv hK hP (ci := 1) (q0 := 0) rfl rfl) rfl hl.1 rfl (Nat.le_of_ble_eq_true rfl) dX1_keep_33 ⟨Nat.le_of_ble_eq_true rfl, Nat.le_of_ble_eq_true rfl⟩ (fun H locs hP hS => ?_)
      refine lv_aload_n hx hb dX1_keep_36 rfl (lv_at hl 0 rfl) ?_
      refine zm_rget hx hb hts hown hK hP 0 (by decide) q949 rfl dX1_keep_37 ?_
      refine zk_iconst hx hb dX1_keep_40 ?_
      refine zk_iald hx hb hK hP 1 0 rfl rfl (N := 3305) ⟨by decide, by decide⟩ hf dX1_keep_41 (fun hf => ?_)
      exact zk_iret hx hb hr hlk (zk_p1 hf) (zk_pB hf hP) hS dX1_keep_42
    · refine zk_bipush hx hb dX1_keep_21 (by decide) ?_
      exact zk_iret hx hb hr hlk (zk_p1 hf) (zk_pB hf hP) hS dX1_keep_23
  · refine zk_iconst hx hb dX1_keep_12 ?_
    exact zk_iret hx hb hr hlk (zk_p1 hf) (zk_pB hf hP) hS dX1_keep_13
abbrev zw_X1_on_rm : Room := { frames := 2, cells := 0, slots := 0, locals := 57 }
abbrev zw_X1_on_vs (o : Nat) (p1 : Int) : List Value := [.ref o, zk_I p1]
set_option maxHeartbeats 4000000 in
set_option maxRecDepth 100000 in
theorem zw_X1_on (l : Launch) {D : va_G} {o : Nat} {a : Nat → Nat} {dA : Nat → ClassId} {A : Nat → Prop} (hD : ∀ τ, va_D A (zm_P o a dA τ)) (N : Nat) (p1 : Int) (σ : ZS) (r : Int) (σ' : ZS) (hf : zm_on N p1 σ = some (r, σ')) : zk_MW l yX1_on (ws_ yX1_on cX1_on 2 (Option.some Jvm.ClassFile.FieldType.int)) zw_X1_on_rm D zk_cl (zk_ty dA) A (zw_X1_on_vs o p1) (zm_P o a dA σ) (zm_P o a dA σ') (some (zk_I r)) := by
  refine zk_startW (by decide +kernel) (Nat.le_of_ble_eq_true rfl) (fun p e s m below meth c H locs ls hx hb hr hlk hml hown hts hKX hP hS hl => ?_)
  have hl : lv_has ls 2 [(0, .ref o), (1, zk_I p1)] := hl
  have hK := hKX.1
  have hown : s.vm.findClass RX1 = some m.cls := hown
  have hf : zm_on N p1 σ = some (r, σ') := hf
  refine zk_iloadn hx hb dX1_on_0 rfl (lv_at hl 1 rfl) ?_
  refine zk_ri2l hx hb dX1_on_1 hf (fun hf => ?_)
  refine zk_lconst (v := 0) hx hb dX1_on_2 rfl ?_
  refine zk_ldc2 hx hb 2 hown (hts _ q1210) rfl dX1_on_3 ?_
  obtain ⟨v1, hq, hf⟩ := zk_bs hf
  refine zk_callSS (As := [zk_L p1, zk_L 0, zk_L 2]) (rest := []) ⟨hx, hb, hml, hown, hts⟩ (zw_X1_in l p1 0 2 _ hq) (va_cwS 3 hts (lw_S q1027 q1028 q88 q1029) rfl rfl rfl (by decide +kernel) ⟨Nat.le_of_ble_eq_true rfl, Nat.le_of_ble_eq_true rfl⟩) hP hS rfl hl.1 rfl (Nat.le_of_ble_eq_true rfl) dX1_on_6 ⟨Nat.le_of_ble_eq_true rfl, Nat.le_of_ble_eq_true rfl⟩ (fun H locs hP hS => ?_)
  refine zk_if_ne (tgt := 14) hx hb dX1_on_9 (by decide) hf (fun h => h) (fun hf => ?_) (fun hf => ?_)
  · refine lv_aload_n hx hb dX1_on_14 rfl (lv_at hl 0 rfl) ?_
    refine zm_rget hx hb hts hown hK hP 0 (by decide) q949 rfl dX1_on_15 ?_
    refine zk_sipush hx hb dX1_on_18 (by decide) ?_
    refine zk_iconst hx hb dX1_on_21 ?_
    refine zk_iloadn hx hb dX1_on_22 rfl (lv_at hl 1 rfl) ?_
    refine zk_iadd hx hb dX1_on_23 ?_
    refine zk_imul hx hb dX1_on_24 ?_
    refine zk_iconst hx hb dX1_on_25 ?_
    refine zk_iadd hx hb dX1_on_26 ?_
    refine zk_iald hx hb hK hP 1 0 rfl rfl (N := 3305) ⟨by decide, by decide⟩ hf dX1_on_27 (fun hf => ?_)
    refine zk_if_ge (tgt := 37) hx hb dX1_on_28 (by decide) hf (fun h => h) (fun hf => ?_) (fun hf => ?_)
    · refine lv_aload_n hx hb dX1_on_37 rfl (lv_at hl 0 rfl) ?_
      refine zk_sipush hx hb dX1_on_38 (by decide) ?_
      refine zk_iconst hx hb dX1_on_41 ?_
      refine zk_iloadn hx hb dX1_on_42 rfl (lv_at hl 1 rfl) ?_
      refine zk_iadd hx hb dX1_on_43 ?_
      refine zk_imul hx hb dX1_on_44 ?_
      refine zk_iconst hx hb dX1_on_45 ?_
      obtain ⟨v2, s3, hq, hf⟩ := zk_b2s hf
      refine zk_callVW (As := [zk_I (821 * (1 + p1)), zk_I 0]) (rest := []) ⟨hx, hb, hml, hown, hts⟩ (zw_X1_copyRiver l hD N (821 * (1 + p1)) 0 σ _ _ hq) (cwV 2 hts (lw_V q1211 q1213 qs63 q88 q1214) rfl rfl rfl (by decide +kernel) ⟨Nat.le_of_ble_eq_true rfl, Nat.le_of_ble_eq_true rfl⟩) hKX hP hS (va_recv hK hP (ci := 1) (q0 := 0) rfl rfl) rfl hl.1 rfl (Nat.le_of_ble_eq_true rfl) dX1_on_46 ⟨Nat.le_of_ble_eq_true rfl, Nat.le_of_ble_eq_true rfl⟩ (fun H locs hP hS => ?_)
      refine lv_aload_n hx hb dX1_on_49 rfl (lv_at hl 0 rfl) ?_
      refine zm_rget hx hb hts hown hK hP 0 (by decide) q949 rfl dX1_on_50 ?_
      refine zk_iconst hx hb dX1_on_53 ?_
      refine zk_iald hx hb hK hP 1 0 rfl rfl (N := 3305) ⟨by decide, by decide⟩ hf dX1_on_54 (fun hf => ?_)
      exact zk_iret hx hb hr hlk (zk_p1 hf) (zk_pB hf hP) hS dX1_on_55
    · refine lv_aload_n hx hb dX1_on_31 rfl (lv_at hl 0 rfl) ?_
      refine zk_iconst hx hb dX1_on_32 ?_
      obtain ⟨v4, s5, hq, hf⟩ := zk_b2s hf
      refine zk_callVW (As := [zk_I 1]) (rest := []) ⟨hx, hb, hml, hown, hts⟩ (zw_X1_find l hD 1 σ _ _ hq) (cwV 1 hts (lw_V q1030 q1032 qs40 q88 q1033) rfl rfl rfl (by decide +kernel) ⟨Nat.le_of_ble_eq_true rfl, Nat.le_of_ble_eq_true rfl⟩) hKX hP hS (va_recv hK hP (ci := 1) (q0 := 0) rfl rfl) rfl hl.1 rfl (Nat.le_of_ble_eq_true rfl) dX1_on_33 ⟨Nat.le_of_ble_eq_true rfl, Nat.le_of_ble_eq_true rfl⟩ (fun H locs hP hS => ?_)
      exact zk_iret hx hb hr hlk (zk_p1 hf) (zk_pB hf hP) hS dX1_on_36
  · refine zk_iconst hx hb dX1_on_12 ?_
    exact zk_iret hx hb hr hlk (zk_p1 hf) (zk_pB hf hP) hS dX1_on_13
abbrev zw_X1_dares_rm : Room := { frames := 3, cells := 0, slots := 0, locals := 78 }
abbrev zw_X1_dares_vs (o : Nat) (p1 p2 p3 p4 : Int) : List Value := [.ref o, zk_I p1, zk_I p2, zk_I p3, zk_I p4]
set_option maxHeartbeats 4000000 in
set_option maxRecDepth 100000 in
theorem zw_X1_dares (l : Launch) {D : va_G} {o : Nat} {a : Nat → Nat} {dA : Nat → ClassId} (p1 p2 p3 p4 : Int) (σ : ZS) (r : Int) (hf : zm_dares p1 p2 p3 p4 σ = some r) : zk_MR l yX1_dares (ws_ yX1_dares cX1_dares 5 (Option.some Jvm.ClassFile.FieldType.int)) zw_X1_dares_rm D zk_cl (zk_ty dA) (zw_X1_dares_vs o p1 p2 p3 p4) (zm_P o a dA σ) (some (zk_I r)) := by
  refine zk_startW (by decide +kernel) (Nat.le_of_ble_eq_true rfl) (fun p e s m below meth c H locs ls hx hb hr hlk hml hown hts hKX hP hS hl => ?_)
  have hl : lv_has ls 5 [(0, .ref o), (1, zk_I p1), (2, zk_I p2), (3, zk_I p3), (4, zk_I p4)] := hl
  have hK := hKX.1
  have hown : s.vm.findClass RX1 = some m.cls := hown
  have hf : zm_dares p1 p2 p3 p4 σ = some r := hf
  refine lv_aload_n hx hb dX1_dares_0 rfl (lv_at hl 0 rfl) ?_
  refine zk_iloadn hx hb dX1_dares_1 rfl (lv_at hl 1 rfl) ?_
  obtain ⟨v1, hq, hf⟩ := zk_bs hf
  refine zk_callVR (As := [zk_I p1]) (rest := []) ⟨hx, hb, hml, hown, hts⟩ (zw_X1_isOne l p1 σ _ hq) (cwV 1 hts (lw_V q1127 q1129 qs52 q88 q1130) rfl rfl rfl (by decide +kernel) ⟨Nat.le_of_ble_eq_true rfl, Nat.le_of_ble_eq_true rfl⟩) hKX hP hS (va_recv hK hP (ci := 1) (q0 := 0) rfl rfl) rfl hl.1 rfl (Nat.le_of_ble_eq_true rfl) dX1_dares_2 ⟨Nat.le_of_ble_eq_true rfl, Nat.le_of_ble_eq_true rfl⟩ (fun H locs hP hS => ?_)
  refine zk_if_eq (tgt := 61) hx hb dX1_dares_5 (by decide) hf (fun h => h) (fun hf => ?_) (fun hf => ?_)
  · refine zk_iconst hx hb dX1_dares_61 ?_
    exact zk_iret hx hb hr hlk (Option.some.inj hf) (fun _ _ => trivial) hS dX1_dares_62
  · refine zk_iloadn hx hb dX1_dares_8 rfl (lv_at hl 2 rfl) ?_
    refine zk_ri2l hx hb dX1_dares_9 hf (fun hf => ?_)
    refine zk_lconst (v := 0) hx hb dX1_dares_10 rfl ?_
    refine zk_ldc2 hx hb 20 hown (hts _ q1193) rfl dX1_dares_11 ?_
    obtain ⟨v2, hq, hf⟩ := zk_bs hf
    refine zk_callSS (As := [zk_L p2, zk_L 0, zk_L 20]) (rest := []) ⟨hx, hb, hml, hown, hts⟩ (zw_X1_in l p2 0 20 _ hq) (va_cwS 3 hts (lw_S q1027 q1028 q88 q1029) rfl rfl rfl (by decide +kernel) ⟨Nat.le_of_ble_eq_true rfl, Nat.le_of_ble_eq_true rfl⟩) hP hS rfl hl.1 rfl (Nat.le_of_ble_eq_true rfl) dX1_dares_14 ⟨Nat.le_of_ble_eq_true rfl, Nat.le_of_ble_eq_true rfl⟩ (fun H locs hP hS => ?_)
    refine zk_if_eq (tgt := 61) hx hb dX1_dares_17 (by decide) hf (fun h => h) (fun hf => ?_) (fun hf => ?_)
    · refine zk_iconst hx hb dX1_dares_61 ?_
      exact zk_iret hx hb hr hlk (Option.some.inj hf) (fun _ _ => trivial) hS dX1_dares_62
    · refine zk_iloadn hx hb dX1_dares_20 rfl (lv_at hl 3 rfl) ?_
      refine zk_ri2l hx hb dX1_dares_21 hf (fun hf => ?_)
      refine zk_lconst (v := 0) hx hb dX1_dares_22 rfl ?_
      refine zk_ldc2 hx hb 99 hown (hts _ q1223) rfl dX1_dares_23 ?_
      obtain ⟨v3, hq, hf⟩ := zk_bs hf
      refine zk_callSS (As := [zk_L p3, zk_L 0, zk_L 99]) (rest := []) ⟨hx, hb, hml, hown, hts⟩ (zw_X1_in l p3 0 99 _ hq) (va_cwS 3 hts (lw_S q1027 q1028 q88 q1029) rfl rfl rfl (by decide +kernel) ⟨Nat.le_of_ble_eq_true rfl, Nat.le_of_ble_eq_true rfl⟩) hP hS rfl hl.1 rfl (Nat.le_of_ble_eq_true rfl) dX1_dares_26 ⟨Nat.le_of_ble_eq_true rfl, Nat.le_of_ble_eq_true rfl⟩ (fun H locs hP hS => ?_)
      refine zk_if_eq (tgt := 61) hx hb dX1_dares_29 (by decide) hf (fun h => h) (fun hf => ?_) (fun hf => ?_)
      · refine zk_iconst hx hb dX1_dares_61 ?_
        exact zk_iret hx hb hr hlk (Option.some.inj hf) (fun _ _ => trivial) hS dX1_dares_62
      · refine zk_iload hx hb dX1_dares_32 (lv_at hl 4 rfl) ?_
        refine zk_ri2l hx hb dX1_dares_34 hf (fun hf => ?_)
        refine zk_lconst (v := 0) hx hb dX1_dares_35 rfl ?_
        refine zk_ldc2 hx hb 9 hown (hts _ q1188) rfl dX1_dares_36 ?_
        obtain ⟨v4, hq, hf⟩ := zk_bs hf
        refine zk_callSS (As := [zk_L p4, zk_L 0, zk_L 9]) (rest := []) ⟨hx, hb, hml, hown, hts⟩ (zw_X1_in l p4 0 9 _ hq) (va_cwS 3 hts (lw_S q1027 q1028 q88 q1029) rfl rfl rfl (by decide +kernel) ⟨Nat.le_of_ble_eq_true rfl, Nat.le_of_ble_eq_true rfl⟩) hP hS rfl hl.1 rfl (Nat.le_of_ble_eq_true rfl) dX1_dares_39 ⟨Nat.le_of_ble_eq_true rfl, Nat.le_of_ble_eq_true rfl⟩ (fun H locs hP hS => ?_)
        refine zk_if_eq (tgt := 61) hx hb dX1_dares_42 (by decide) hf (fun h => h) (fun hf => ?_) (fun hf => ?_)
        · refine zk_iconst hx hb dX1_dares_61 ?_
          exact zk_iret hx hb hr hlk (Option.some.inj hf) (fun _ _ => trivial) hS dX1_dares_62
        · refine lv_aload_n hx hb dX1_dares_45 rfl (lv_at hl 0 rfl) ?_
          refine zm_rget hx hb hts hown hK hP 2 (by decide) q951 rfl dX1_dares_46 ?_
          refine zk_iloadn hx hb dX1_dares_49 rfl (lv_at hl 1 rfl) ?_
          refine zk_iald hx hb hK hP 2 0 rfl rfl (N := 6) ⟨by decide, by decide⟩ hf dX1_dares_50 (fun hf => ?_)
          refine zk_iloadn hx hb dX1_dares_51 rfl (lv_at hl 2 rfl) ?_
          refine zk_iloadn hx hb dX1_dares_52 rfl (lv_at hl 3 rfl) ?_
          refine zk_iload hx hb dX1_dares_53 (lv_at hl 4 rfl) ?_
          obtain ⟨v5, hq, hf⟩ := zk_bs hf
          refine zk_callSS (As := [zk_I (σ 2 p1), zk_I p2, zk_I p3, zk_I p4]) (rest := []) ⟨hx, hb, hml, hown, hts⟩ (zw_X1_daresBy l (σ 2 p1) p2 p3 p4 _ hq) (va_cwS 4 hts (lw_S q1146 q1147 q88 q1148) rfl rfl rfl (by decide +kernel) ⟨Nat.le_of_ble_eq_true rfl, Nat.le_of_ble_eq_true rfl⟩) hP hS rfl hl.1 rfl (Nat.le_of_ble_eq_true rfl) dX1_dares_55 ⟨Nat.le_of_ble_eq_true rfl, Nat.le_of_ble_eq_true rfl⟩ (fun H locs hP hS => ?_)
          refine lv_goto (tgt := 62) hx hb dX1_dares_58 (by decide) ?_
          exact zk_iret hx hb hr hlk (Option.some.inj hf) (fun _ _ => trivial) hS dX1_dares_62
abbrev zw_X1_layTried_rm : Room := { frames := 1, cells := 0, slots := 0, locals := 32 }
abbrev zw_X1_layTried_vs (o : Nat) : List Value := [.ref o]
set_option maxHeartbeats 4000000 in
set_option maxRecDepth 100000 in
theorem zw_X1_layTried (l : Launch) {D : va_G} {o : Nat} {a : Nat → Nat} {dA : Nat → ClassId} {A : Nat → Prop} (hD : ∀ τ, va_D A (zm_P o a dA τ)) (N : Nat) (σ : ZS) (r : Int) (σ' : ZS) (hf : zm_layTried N  σ = some (r, σ')) : zk_MW l yX1_layTried (ws_ yX1_layTried cX1_layTried 2 (Option.none : Option Jvm.ClassFile.FieldType)) zw_X1_layTried_rm D zk_cl (zk_ty dA) A (zw_X1_layTried_vs o) (zm_P o a dA σ) (zm_P o a dA σ') none := by
  refine zk_startW (by decide +kernel) (Nat.le_of_ble_eq_true rfl) (fun p e s m below meth c H locs ls hx hb hr hlk hml hown hts hKX hP hS hl => ?_)
  have hl : lv_has ls 2 [(0, .ref o)] := hl
  have hK := hKX.1
  have hown : s.vm.findClass RX1 = some m.cls := hown
  have hf : zm_layTried N  σ = some (r, σ') := hf
  have hJ30 : ∀ (s0 : ZS) (H : Heap) (locs : List Loc) (ls : Array Slot), zm_layTried_j30 N  s0 = some (r, σ') → lv_has ls 2 [] → va_P D zk_cl (zm_P o a dA s0) H → va_S A s.heap H locs → W p l e zw_X1_layTried_rm s m (zw_X1_layTried_vs o).toArray below meth c H locs 0 0 (MQ below (zk_Q none (fun t => va_P D zk_cl (zm_P o a dA σ') t.heap) A) (zw_X1_layTried_vs o).toArray s 0 0 A) (F0 m 30 ls []) := by
    intro s0 H locs ls hf hl hP hS
    exact zk_vret hx hb hr hlk (zk_pB hf hP) hS dX1_layTried_30
  have hL2 : ∀ (n : Nat) (x1 : Int) (s0 : ZS) (H : Heap) (locs : List Loc) (ls : Array Slot), zk_b (zk_loop (α := Int × ZS) (β := ZS) n (fun a => zm_layTried_b2 N a.1 a.2) (x1, s0)) (fun e => zm_layTried_j30 N e) = some (r, σ') → lv_has ls 2 [(0, .ref o), (1, zk_I x1)] → va_P D zk_cl (zm_P o a dA s0) H → va_S A s.heap H locs → W p l e zw_X1_layTried_rm s m (zw_X1_layTried_vs o).toArray below meth c H locs 0 0 (MQ below (zk_Q none (fun t => va_P D zk_cl (zm_P o a dA σ') t.heap) A) (zw_X1_layTried_vs o).toArray s 0 0 A) (F0 m 2 ls []) := by
    intro n
    induction n with
    | zero => intro x1 s0 H locs ls hf; exact (zk_l0 hf).elim
    | succ n ih2 =>
      intro x1 s0 H locs ls hf hl hP hS
      obtain ⟨c2, hf, hc2⟩ := zk_ls hf
      refine zk_iloadn hx hb dX1_layTried_2 rfl (lv_at hl 1 rfl) ?_
      refine zk_bipush hx hb dX1_layTried_3 (by decide) ?_
      refine zk_icmp_ge (tgt := 30) hx hb dX1_layTried_5 (by decide) hf (fun h => ⟨h, by decide⟩) (fun hf => ?_) (fun hf => ?_)
      · obtain rfl := zk_so hf
        exact hJ30 _ H locs ls hc2 (lv_sub hl [] rfl) hP hS
      · refine lv_aload_n hx hb dX1_layTried_8 rfl (lv_at hl 0 rfl) ?_
        refine zm_rget hx hb hts hown hK hP 0 (by decide) q949 rfl dX1_layTried_9 ?_
        refine zk_sipush hx hb dX1_layTried_12 (by decide) ?_
        refine zk_iloadn hx hb dX1_layTried_15 rfl (lv_at hl 1 rfl) ?_
        refine zk_iadd hx hb dX1_layTried_16 ?_
        refine lv_aload_n hx hb dX1_layTried_17 rfl (lv_at hl 0 rfl) ?_
        refine zm_rget hx hb hts hown hK hP 0 (by decide) q949 rfl dX1_layTried_18 ?_
        refine zk_iloadn hx hb dX1_layTried_21 rfl (lv_at hl 1 rfl) ?_
        refine zk_iald hx hb hK hP 1 0 rfl rfl (N := 3305) ⟨by decide, by decide⟩ hf dX1_layTried_22 (fun hf => ?_)
        refine zk_iastN hx hb hK hP hD hS 1 0 0 rfl rfl (N := 3305) ⟨by decide, by decide⟩ (zm_t0 _ _ _) hf dX1_layTried_23 (fun s1 H locs hf hP hS => ?_)
        refine zk_iincN (lv' := fun x1_2 => [(1, zk_I x1_2), (0, .ref o)]) hx hb dX1_layTried_24 hl (k := 1) rfl (by decide) (fun _ => rfl) hf (fun x1_2 hf ls hl => ?_)
        refine lv_goto (tgt := 2) hx hb dX1_layTried_27 (by decide) ?_
        obtain rfl := zk_so hf
        exact ih2 _ _ H locs ls hc2 (lv_sub hl [1, 0] rfl) hP hS
  refine zk_iconst hx hb dX1_layTried_0 ?_
  refine lv_istore_n (lv' := [(1, zk_I 0), (0, .ref o)]) hx hb dX1_layTried_1 rfl hl (by decide) rfl (fun ls hl => ?_)
  exact hL2 N _ _ H locs ls hf (lv_sub hl [1, 0] rfl) hP hS
abbrev zw_X1_where_rm : Room := { frames := 6, cells := 0, slots := 0, locals := 148 }
abbrev zw_X1_where_vs (o : Nat) (p1 : Int) : List Value := [.ref o, zk_I p1]
set_option maxHeartbeats 4000000 in
set_option maxRecDepth 100000 in
theorem zw_X1_where (l : Launch) {D : va_G} {o : Nat} {a : Nat → Nat} {dA : Nat → ClassId} {A : Nat → Prop} (hD : ∀ τ, va_D A (zm_P o a dA τ)) (N : Nat) (p1 : Int) (σ : ZS) (r : Int) (σ' : ZS) (hf : zm_where N p1 σ = some (r, σ')) : zk_MW l yX1_where (ws_ yX1_where cX1_where 3 (Option.some Jvm.ClassFile.FieldType.int)) zw_X1_where_rm D zk_cl (zk_ty dA) A (zw_X1_where_vs o p1) (zm_P o a dA σ) (zm_P o a dA σ') (some (zk_I r)) := by
  refine zk_startW (by decide +kernel) (Nat.le_of_ble_eq_true rfl) (fun p e s m below meth c H locs ls hx hb hr hlk hml hown hts hKX hP hS hl => ?_)
  have hl : lv_has ls 3 [(0, .ref o), (1, zk_I p1)] := hl
  have hK := hKX.1
  have hown : s.vm.findClass RX1 = some m.cls := hown
  have hf : zm_where N p1 σ = some (r, σ') := hf
  have hJ58 : ∀ (s0 : ZS) (H : Heap) (locs : List Loc) (ls : Array Slot), zm_where_j58 N  s0 = some (r, σ') → lv_has ls 3 [(0, .ref o)] → va_P D zk_cl (zm_P o a dA s0) H → va_S A s.heap H locs → W p l e zw_X1_where_rm s m (zw_X1_where_vs o p1).toArray below meth c H locs 0 0 (MQ below (zk_Q (some (zk_I r)) (fun t => va_P D zk_cl (zm_P o a dA σ') t.heap) A) (zw_X1_where_vs o p1).toArray s 0 0 A) (F0 m 58 ls []) := by
    intro s0 H locs ls hf hl hP hS
    refine lv_aload_n hx hb dX1_where_58 rfl (lv_at hl 0 rfl) ?_
    refine zm_rget hx hb hts hown hK hP 0 (by decide) q949 rfl dX1_where_59 ?_
    refine zk_sipush hx hb dX1_where_62 (by decide) ?_
    refine zk_iald hx hb hK hP 1 0 rfl rfl (N := 3305) ⟨by decide, by decide⟩ hf dX1_where_65 (fun hf => ?_)
    exact zk_iret hx hb hr hlk (zk_p1 hf) (zk_pB hf hP) hS dX1_where_66
  have hL36 : ∀ (n : Nat) (x1 x2 : Int) (s0 : ZS) (H : Heap) (locs : List Loc) (ls : Array Slot), zk_b (zk_loop (α := Int × ZS) (β := ZS) n (fun a => zm_where_b36 N x1 a.1 a.2) (x2, s0)) (fun e => zm_where_j58 N e) = some (r, σ') → lv_has ls 3 [(0, .ref o), (1, zk_I x1), (2, zk_I x2)] → va_P D zk_cl (zm_P o a dA s0) H → va_S A s.heap H locs → W p l e zw_X1_where_rm s m (zw_X1_where_vs o p1).toArray below meth c H locs 0 0 (MQ below (zk_Q (some (zk_I r)) (fun t => va_P D zk_cl (zm_P o a dA σ') t.heap) A) (zw_X1_where_vs o p1).toArray s 0 0 A) (F0 m 36 ls []) := by
    intro n
    induction n with
    | zero => intro x1 x2 s0 H locs ls hf; exact (zk_l0 hf).elim
    | succ n ih36 =>
      intro x1 x2 s0 H locs ls hf hl hP hS
      obtain ⟨c36, hf, hc36⟩ := zk_ls hf
      refine zk_iloadn hx hb dX1_where_36 rfl (lv_at hl 2 rfl) ?_
      refine zk_iloadn hx hb dX1_where_37 rfl (lv_at hl 1 rfl) ?_
      refine zk_icmp_ge (tgt := 58) hx hb dX1_where_38 (by decide) hf (fun h => h) (fun hf => ?_) (fun hf => ?_)
      · obtain rfl := zk_so hf
        exact hJ58 _ H locs ls hc36 (lv_sub hl [0] rfl) hP hS
      · refine lv_aload_n hx hb dX1_where_41 rfl (lv_at hl 0 rfl) ?_
        refine lv_aload_n hx hb dX1_where_42 rfl (lv_at hl 0 rfl) ?_
        refine zk_sipush hx hb dX1_where_43 (by decide) ?_
        obtain ⟨v5, s6, hq, hf⟩ := zk_b2s hf
        refine zk_callVW (As := [zk_I 3284]) (rest := [.ref o]) ⟨hx, hb, hml, hown, hts⟩ (zw_X1_passes l hD N 3284 s0 _ _ hq) (cwV 1 hts (lw_V q1169 q1171 qs59 q88 q1172) rfl rfl rfl (by decide +kernel) ⟨Nat.le_of_ble_eq_true rfl, Nat.le_of_ble_eq_true rfl⟩) hKX hP hS (va_recv hK hP (ci := 1) (q0 := 0) rfl rfl) rfl hl.1 rfl (Nat.le_of_ble_eq_true rfl) dX1_where_46 ⟨Nat.le_of_ble_eq_true rfl, Nat.le_of_ble_eq_true rfl⟩ (fun H locs hP hS => ?_)
        refine zm_rput hx hb hts hown hK hP hD hS 7 (by decide) q956 rfl rfl rfl (zm_s7 _ _) hf dX1_where_49 (fun s7 H locs hf hP hS => ?_)
        refine zk_iincN (lv' := fun x2_8 => [(2, zk_I x2_8), (0, .ref o), (1, zk_I x1)]) hx hb dX1_where_52 hl (k := 2) rfl (by decide) (fun _ => rfl) hf (fun x2_8 hf ls hl => ?_)
        refine lv_goto (tgt := 36) hx hb dX1_where_55 (by decide) ?_
        obtain rfl := zk_so hf
        exact ih36 _ _ _ H locs ls hc36 (lv_sub hl [1, 2, 0] rfl) hP hS
  refine zk_iloadn hx hb dX1_where_0 rfl (lv_at hl 1 rfl) ?_
  refine zk_ri2l hx hb dX1_where_1 hf (fun hf => ?_)
  refine zk_lconst (v := 0) hx hb dX1_where_2 rfl ?_
  refine zk_ldc2 hx hb 40 hown (hts _ q1228) rfl dX1_where_3 ?_
  obtain ⟨v1, hq, hf⟩ := zk_bs hf
  refine zk_callSS (As := [zk_L p1, zk_L 0, zk_L 40]) (rest := []) ⟨hx, hb, hml, hown, hts⟩ (zw_X1_in l p1 0 40 _ hq) (va_cwS 3 hts (lw_S q1027 q1028 q88 q1029) rfl rfl rfl (by decide +kernel) ⟨Nat.le_of_ble_eq_true rfl, Nat.le_of_ble_eq_true rfl⟩) hP hS rfl hl.1 rfl (Nat.le_of_ble_eq_true rfl) dX1_where_6 ⟨Nat.le_of_ble_eq_true rfl, Nat.le_of_ble_eq_true rfl⟩ (fun H locs hP hS => ?_)
  refine zk_if_ne (tgt := 14) hx hb dX1_where_9 (by decide) hf (fun h => h) (fun hf => ?_) (fun hf => ?_)
  · refine lv_aload_n hx hb dX1_where_14 rfl (lv_at hl 0 rfl) ?_
    refine zm_rget hx hb hts hown hK hP 1 (by decide) q950 rfl dX1_where_15 ?_
    refine zk_if_ne (tgt := 24) hx hb dX1_where_18 (by decide) hf (fun h => h) (fun hf => ?_) (fun hf => ?_)
    · refine lv_aload_n hx hb dX1_where_24 rfl (lv_at hl 0 rfl) ?_
      obtain ⟨v2, s3, hq, hf⟩ := zk_b2s hf
      refine zk_callVW (As := []) (rest := []) ⟨hx, hb, hml, hown, hts⟩ (zw_X1_layTried l hD N  σ _ _ hq) (cwV 0 hts (lw_V q1229 q1231 qs64 q88 q1232) rfl rfl rfl (by decide +kernel) ⟨Nat.le_of_ble_eq_true rfl, Nat.le_of_ble_eq_true rfl⟩) hKX hP hS (va_recv hK hP (ci := 1) (q0 := 0) rfl rfl) rfl hl.1 rfl (Nat.le_of_ble_eq_true rfl) dX1_where_25 ⟨Nat.le_of_ble_eq_true rfl, Nat.le_of_ble_eq_true rfl⟩ (fun H locs hP hS => ?_)
      refine lv_aload_n hx hb dX1_where_28 rfl (lv_at hl 0 rfl) ?_
      refine zk_bipush hx hb dX1_where_29 (by decide) ?_
      refine zm_rput hx hb hts hown hK hP hD hS 7 (by decide) q956 rfl rfl rfl (zm_s7 _ _) hf dX1_where_31 (fun s4 H locs hf hP hS => ?_)
      refine zk_iconst hx hb dX1_where_34 ?_
      refine lv_istore_n (lv' := [(2, zk_I 0), (0, .ref o), (1, zk_I p1)]) hx hb dX1_where_35 rfl hl (by decide) rfl (fun ls hl => ?_)
      exact hL36 N _ _ _ H locs ls hf (lv_sub hl [1, 2, 0] rfl) hP hS
    · refine zk_bipush hx hb dX1_where_21 (by decide) ?_
      exact zk_iret hx hb hr hlk (zk_p1 hf) (zk_pB hf hP) hS dX1_where_23
  · refine zk_iconst hx hb dX1_where_12 ?_
    exact zk_iret hx hb hr hlk (zk_p1 hf) (zk_pB hf hP) hS dX1_where_13
abbrev zw_X1_crosses_rm : Room := { frames := 6, cells := 0, slots := 0, locals := 148 }
abbrev zw_X1_crosses_vs (o : Nat) (p1 p2 : Int) : List Value := [.ref o, zk_I p1, zk_I p2]
set_option maxHeartbeats 4000000 in
set_option maxRecDepth 100000 in
theorem zw_X1_crosses (l : Launch) {D : va_G} {o : Nat} {a : Nat → Nat} {dA : Nat → ClassId} {A : Nat → Prop} (hD : ∀ τ, va_D A (zm_P o a dA τ)) (N : Nat) (p1 p2 : Int) (σ : ZS) (r : Int) (σ' : ZS) (hf : zm_crosses N p1 p2 σ = some (r, σ')) : zk_MW l yX1_crosses (ws_ yX1_crosses cX1_crosses 4 (Option.some Jvm.ClassFile.FieldType.int)) zw_X1_crosses_rm D zk_cl (zk_ty dA) A (zw_X1_crosses_vs o p1 p2) (zm_P o a dA σ) (zm_P o a dA σ') (some (zk_I r)) := by
  refine zk_startW (by decide +kernel) (Nat.le_of_ble_eq_true rfl) (fun p e s m below meth c H locs ls hx hb hr hlk hml hown hts hKX hP hS hl => ?_)
  have hl : lv_has ls 4 [(0, .ref o), (1, zk_I p1), (2, zk_I p2)] := hl
  have hK := hKX.1
  have hown : s.vm.findClass RX1 = some m.cls := hown
  have hf : zm_crosses N p1 p2 σ = some (r, σ') := hf
  have hJ47 : ∀ (x1 : Int) (s0 : ZS) (H : Heap) (locs : List Loc) (ls : Array Slot), zm_crosses_j47 N x1 s0 = some (r, σ') → lv_has ls 4 [(0, .ref o), (1, zk_I x1)] → va_P D zk_cl (zm_P o a dA s0) H → va_S A s.heap H locs → W p l e zw_X1_crosses_rm s m (zw_X1_crosses_vs o p1 p2).toArray below meth c H locs 0 0 (MQ below (zk_Q (some (zk_I r)) (fun t => va_P D zk_cl (zm_P o a dA σ') t.heap) A) (zw_X1_crosses_vs o p1 p2).toArray s 0 0 A) (F0 m 47 ls []) := by
    intro x1 s0 H locs ls hf hl hP hS
    refine lv_aload_n hx hb dX1_crosses_47 rfl (lv_at hl 0 rfl) ?_
    refine zm_rget hx hb hts hown hK hP 0 (by decide) q949 rfl dX1_crosses_48 ?_
    refine zk_sipush hx hb dX1_crosses_51 (by decide) ?_
    refine zk_iloadn hx hb dX1_crosses_54 rfl (lv_at hl 1 rfl) ?_
    refine zk_iadd hx hb dX1_crosses_55 ?_
    refine zk_iald hx hb hK hP 1 0 rfl rfl (N := 3305) ⟨by decide, by decide⟩ hf dX1_crosses_56 (fun hf => ?_)
    refine lv_aload_n hx hb dX1_crosses_57 rfl (lv_at hl 0 rfl) ?_
    refine zm_rget hx hb hts hown hK hP 0 (by decide) q949 rfl dX1_crosses_58 ?_
    refine zk_bipush hx hb dX1_crosses_61 (by decide) ?_
    refine zk_iloadn hx hb dX1_crosses_63 rfl (lv_at hl 1 rfl) ?_
    refine zk_iadd hx hb dX1_crosses_64 ?_
    refine zk_iald hx hb hK hP 1 0 rfl rfl (N := 3305) ⟨by decide, by decide⟩ hf dX1_crosses_65 (fun hf => ?_)
    refine zk_isub hx hb dX1_crosses_66 ?_
    exact zk_iret hx hb hr hlk (zk_p1 hf) (zk_pB hf hP) hS dX1_crosses_67
  have hL28 : ∀ (n : Nat) (x1 x2 x3 : Int) (s0 : ZS) (H : Heap) (locs : List Loc) (ls : Array Slot), zk_b (zk_loop (α := Int × ZS) (β := ZS) n (fun a => zm_crosses_b28 N x1 x2 a.1 a.2) (x3, s0)) (fun e => zm_crosses_j47 N x1 e) = some (r, σ') → lv_has ls 4 [(0, .ref o), (1, zk_I x1), (2, zk_I x2), (3, zk_I x3)] → va_P D zk_cl (zm_P o a dA s0) H → va_S A s.heap H locs → W p l e zw_X1_crosses_rm s m (zw_X1_crosses_vs o p1 p2).toArray below meth c H locs 0 0 (MQ below (zk_Q (some (zk_I r)) (fun t => va_P D zk_cl (zm_P o a dA σ') t.heap) A) (zw_X1_crosses_vs o p1 p2).toArray s 0 0 A) (F0 m 28 ls []) := by
    intro n
    induction n with
    | zero => intro x1 x2 x3 s0 H locs ls hf; exact (zk_l0 hf).elim
    | succ n ih28 =>
      intro x1 x2 x3 s0 H locs ls hf hl hP hS
      obtain ⟨c28, hf, hc28⟩ := zk_ls hf
      refine zk_iloadn hx hb dX1_crosses_28 rfl (lv_at hl 3 rfl) ?_
      refine zk_iloadn hx hb dX1_crosses_29 rfl (lv_at hl 2 rfl) ?_
      refine zk_icmp_ge (tgt := 47) hx hb dX1_crosses_30 (by decide) hf (fun h => h) (fun hf => ?_) (fun hf => ?_)
      · obtain rfl := zk_so hf
        exact hJ47 _ _ H locs ls hc28 (lv_sub hl [0, 1] rfl) hP hS
      · refine lv_aload_n hx hb dX1_crosses_33 rfl (lv_at hl 0 rfl) ?_
        refine zk_sipush hx hb dX1_crosses_34 (by decide) ?_
        obtain ⟨v5, s6, hq, hf⟩ := zk_b2s hf
        refine zk_callVW (As := [zk_I 3284]) (rest := []) ⟨hx, hb, hml, hown, hts⟩ (zw_X1_passes l hD N 3284 s0 _ _ hq) (cwV 1 hts (lw_V q1169 q1171 qs59 q88 q1172) rfl rfl rfl (by decide +kernel) ⟨Nat.le_of_ble_eq_true rfl, Nat.le_of_ble_eq_true rfl⟩) hKX hP hS (va_recv hK hP (ci := 1) (q0 := 0) rfl rfl) rfl hl.1 rfl (Nat.le_of_ble_eq_true rfl) dX1_crosses_37 ⟨Nat.le_of_ble_eq_true rfl, Nat.le_of_ble_eq_true rfl⟩ (fun H locs hP hS => ?_)
        refine lv_pop hx hb dX1_crosses_40 rfl ?_
        refine zk_iincN (lv' := fun x3_7 => [(3, zk_I x3_7), (0, .ref o), (1, zk_I x1), (2, zk_I x2)]) hx hb dX1_crosses_41 hl (k := 3) rfl (by decide) (fun _ => rfl) hf (fun x3_7 hf ls hl => ?_)
        refine lv_goto (tgt := 28) hx hb dX1_crosses_44 (by decide) ?_
        obtain rfl := zk_so hf
        exact ih28 _ _ _ _ H locs ls hc28 (lv_sub hl [1, 2, 3, 0] rfl) hP hS
  refine lv_aload_n hx hb dX1_crosses_0 rfl (lv_at hl 0 rfl) ?_
  refine zk_iloadn hx hb dX1_crosses_1 rfl (lv_at hl 1 rfl) ?_
  obtain ⟨v1, hq, hf⟩ := zk_bs hf
  refine zk_callVR (As := [zk_I p1]) (rest := []) ⟨hx, hb, hml, hown, hts⟩ (zw_X1_isOne l p1 σ _ hq) (cwV 1 hts (lw_V q1127 q1129 qs52 q88 q1130) rfl rfl rfl (by decide +kernel) ⟨Nat.le_of_ble_eq_true rfl, Nat.le_of_ble_eq_true rfl⟩) hKX hP hS (va_recv hK hP (ci := 1) (q0 := 0) rfl rfl) rfl hl.1 rfl (Nat.le_of_ble_eq_true rfl) dX1_crosses_2 ⟨Nat.le_of_ble_eq_true rfl, Nat.le_of_ble_eq_true rfl⟩ (fun H locs hP hS => ?_)
  refine zk_if_eq (tgt := 20) hx hb dX1_crosses_5 (by decide) hf (fun h => h) (fun hf => ?_) (fun hf => ?_)
  · refine zk_iconst hx hb dX1_crosses_20 ?_
    exact zk_iret hx hb hr hlk (zk_p1 hf) (zk_pB hf hP) hS dX1_crosses_21
  · refine zk_iloadn hx hb dX1_crosses_8 rfl (lv_at hl 2 rfl) ?_
    refine zk_ri2l hx hb dX1_crosses_9 hf (fun hf => ?_)
    refine zk_lconst (v := 0) hx hb dX1_crosses_10 rfl ?_
    refine zk_ldc2 hx hb 40 hown (hts _ q1228) rfl dX1_crosses_11 ?_
    obtain ⟨v2, hq, hf⟩ := zk_bs hf
    refine zk_callSS (As := [zk_L p2, zk_L 0, zk_L 40]) (rest := []) ⟨hx, hb, hml, hown, hts⟩ (zw_X1_in l p2 0 40 _ hq) (va_cwS 3 hts (lw_S q1027 q1028 q88 q1029) rfl rfl rfl (by decide +kernel) ⟨Nat.le_of_ble_eq_true rfl, Nat.le_of_ble_eq_true rfl⟩) hP hS rfl hl.1 rfl (Nat.le_of_ble_eq_true rfl) dX1_crosses_14 ⟨Nat.le_of_ble_eq_true rfl, Nat.le_of_ble_eq_true rfl⟩ (fun H locs hP hS => ?_)
    refine zk_if_ne (tgt := 22) hx hb dX1_crosses_17 (by decide) hf (fun h => h) (fun hf => ?_) (fun hf => ?_)
    · refine lv_aload_n hx hb dX1_crosses_22 rfl (lv_at hl 0 rfl) ?_
      obtain ⟨v3, s4, hq, hf⟩ := zk_b2s hf
      refine zk_callVW (As := []) (rest := []) ⟨hx, hb, hml, hown, hts⟩ (zw_X1_layTried l hD N  σ _ _ hq) (cwV 0 hts (lw_V q1229 q1231 qs64 q88 q1232) rfl rfl rfl (by decide +kernel) ⟨Nat.le_of_ble_eq_true rfl, Nat.le_of_ble_eq_true rfl⟩) hKX hP hS (va_recv hK hP (ci := 1) (q0 := 0) rfl rfl) rfl hl.1 rfl (Nat.le_of_ble_eq_true rfl) dX1_crosses_23 ⟨Nat.le_of_ble_eq_true rfl, Nat.le_of_ble_eq_true rfl⟩ (fun H locs hP hS => ?_)
      refine zk_iconst hx hb dX1_crosses_26 ?_
      refine lv_istore_n (lv' := [(3, zk_I 0), (0, .ref o), (1, zk_I p1), (2, zk_I p2)]) hx hb dX1_crosses_27 rfl hl (by decide) rfl (fun ls hl => ?_)
      exact hL28 N _ _ _ _ H locs ls hf (lv_sub hl [1, 2, 3, 0] rfl) hP hS
    · refine zk_iconst hx hb dX1_crosses_20 ?_
      exact zk_iret hx hb hr hlk (zk_p1 hf) (zk_pB hf hP) hS dX1_crosses_21
abbrev zw_X1_first_rm : Room := { frames := 6, cells := 0, slots := 0, locals := 148 }
abbrev zw_X1_first_vs (o : Nat) (p1 : Int) : List Value := [.ref o, zk_I p1]
set_option maxHeartbeats 4000000 in
set_option maxRecDepth 100000 in
theorem zw_X1_first (l : Launch) {D : va_G} {o : Nat} {a : Nat → Nat} {dA : Nat → ClassId} {A : Nat → Prop} (hD : ∀ τ, va_D A (zm_P o a dA τ)) (N : Nat) (p1 : Int) (σ : ZS) (r : Int) (σ' : ZS) (hf : zm_first N p1 σ = some (r, σ')) : zk_MW l yX1_first (ws_ yX1_first cX1_first 3 (Option.some Jvm.ClassFile.FieldType.int)) zw_X1_first_rm D zk_cl (zk_ty dA) A (zw_X1_first_vs o p1) (zm_P o a dA σ) (zm_P o a dA σ') (some (zk_I r)) := by
  refine zk_startW (by decide +kernel) (Nat.le_of_ble_eq_true rfl) (fun p e s m below meth c H locs ls hx hb hr hlk hml hown hts hKX hP hS hl => ?_)
  have hl : lv_has ls 3 [(0, .ref o), (1, zk_I p1)] := hl
  have hK := hKX.1
  have hown : s.vm.findClass RX1 = some m.cls := hown
  have hf : zm_first N p1 σ = some (r, σ') := hf
  have hJ41 : ∀ (s0 : ZS) (H : Heap) (locs : List Loc) (ls : Array Slot), zm_first_j41 N  s0 = some (r, σ') → lv_has ls 3 [] → va_P D zk_cl (zm_P o a dA s0) H → va_S A s.heap H locs → W p l e zw_X1_first_rm s m (zw_X1_first_vs o p1).toArray below meth c H locs 0 0 (MQ below (zk_Q (some (zk_I r)) (fun t => va_P D zk_cl (zm_P o a dA σ') t.heap) A) (zw_X1_first_vs o p1).toArray s 0 0 A) (F0 m 41 ls []) := by
    intro s0 H locs ls hf hl hP hS
    refine zk_bipush hx hb dX1_first_41 (by decide) ?_
    exact zk_iret hx hb hr hlk (zk_p1 hf) (zk_pB hf hP) hS dX1_first_43
  have hL16 : ∀ (n : Nat) (x1 x2 : Int) (s0 : ZS) (H : Heap) (locs : List Loc) (ls : Array Slot), zk_b (zk_loop (α := Int × ZS) (β := (ZS) ⊕ (Int × ZS)) n (fun a => zm_first_b16 N x1 a.1 a.2) (x2, s0)) (zk_lr1 (fun e => zm_first_j41 N e)) = some (r, σ') → lv_has ls 3 [(0, .ref o), (1, zk_I x1), (2, zk_I x2)] → va_P D zk_cl (zm_P o a dA s0) H → va_S A s.heap H locs → W p l e zw_X1_first_rm s m (zw_X1_first_vs o p1).toArray below meth c H locs 0 0 (MQ below (zk_Q (some (zk_I r)) (fun t => va_P D zk_cl (zm_P o a dA σ') t.heap) A) (zw_X1_first_vs o p1).toArray s 0 0 A) (F0 m 16 ls []) := by
    intro n
    induction n with
    | zero => intro x1 x2 s0 H locs ls hf; exact (zk_l0 hf).elim
    | succ n ih16 =>
      intro x1 x2 s0 H locs ls hf hl hP hS
      obtain ⟨c16, hf, hc16⟩ := zk_ls hf
      refine zk_iloadn hx hb dX1_first_16 rfl (lv_at hl 2 rfl) ?_
      refine zk_bipush hx hb dX1_first_17 (by decide) ?_
      refine zk_icmp_ge (tgt := 41) hx hb dX1_first_19 (by decide) hf (fun h => ⟨h, by decide⟩) (fun hf => ?_) (fun hf => ?_)
      · obtain rfl := zk_so hf
        exact hJ41 _ H locs ls hc16 (lv_sub hl [] rfl) hP hS
      · refine lv_aload_n hx hb dX1_first_22 rfl (lv_at hl 0 rfl) ?_
        refine zk_sipush hx hb dX1_first_23 (by decide) ?_
        obtain ⟨v4, s5, hq, hf⟩ := zk_b2s hf
        refine zk_callVW (As := [zk_I 3284]) (rest := []) ⟨hx, hb, hml, hown, hts⟩ (zw_X1_passes l hD N 3284 s0 _ _ hq) (cwV 1 hts (lw_V q1169 q1171 qs59 q88 q1172) rfl rfl rfl (by decide +kernel) ⟨Nat.le_of_ble_eq_true rfl, Nat.le_of_ble_eq_true rfl⟩) hKX hP hS (va_recv hK hP (ci := 1) (q0 := 0) rfl rfl) rfl hl.1 rfl (Nat.le_of_ble_eq_true rfl) dX1_first_26 ⟨Nat.le_of_ble_eq_true rfl, Nat.le_of_ble_eq_true rfl⟩ (fun H locs hP hS => ?_)
        refine zk_iloadn hx hb dX1_first_29 rfl (lv_at hl 1 rfl) ?_
        refine zk_icmp_ne (tgt := 35) hx hb dX1_first_30 (by decide) hf (fun h => h) (fun hf => ?_) (fun hf => ?_)
        · refine zk_iincN (lv' := fun x2_6 => [(2, zk_I x2_6), (0, .ref o), (1, zk_I x1)]) hx hb dX1_first_35 hl (k := 2) rfl (by decide) (fun _ => rfl) hf (fun x2_6 hf ls hl => ?_)
          refine lv_goto (tgt := 16) hx hb dX1_first_38 (by decide) ?_
          obtain rfl := zk_so hf
          exact ih16 _ _ _ H locs ls hc16 (lv_sub hl [1, 2, 0] rfl) hP hS
        · refine zk_iloadn hx hb dX1_first_33 rfl (lv_at hl 2 rfl) ?_
          obtain rfl := zk_so hf
          exact zk_iret hx hb hr hlk (zk_p1 hc16) (zk_pB hc16 hP) hS dX1_first_34
  refine lv_aload_n hx hb dX1_first_0 rfl (lv_at hl 0 rfl) ?_
  refine zk_iloadn hx hb dX1_first_1 rfl (lv_at hl 1 rfl) ?_
  obtain ⟨v1, hq, hf⟩ := zk_bs hf
  refine zk_callVR (As := [zk_I p1]) (rest := []) ⟨hx, hb, hml, hown, hts⟩ (zw_X1_isOne l p1 σ _ hq) (cwV 1 hts (lw_V q1127 q1129 qs52 q88 q1130) rfl rfl rfl (by decide +kernel) ⟨Nat.le_of_ble_eq_true rfl, Nat.le_of_ble_eq_true rfl⟩) hKX hP hS (va_recv hK hP (ci := 1) (q0 := 0) rfl rfl) rfl hl.1 rfl (Nat.le_of_ble_eq_true rfl) dX1_first_2 ⟨Nat.le_of_ble_eq_true rfl, Nat.le_of_ble_eq_true rfl⟩ (fun H locs hP hS => ?_)
  refine zk_if_ne (tgt := 10) hx hb dX1_first_5 (by decide) hf (fun h => h) (fun hf => ?_) (fun hf => ?_)
  · refine lv_aload_n hx hb dX1_first_10 rfl (lv_at hl 0 rfl) ?_
    obtain ⟨v2, s3, hq, hf⟩ := zk_b2s hf
    refine zk_callVW (As := []) (rest := []) ⟨hx, hb, hml, hown, hts⟩ (zw_X1_layTried l hD N  σ _ _ hq) (cwV 0 hts (lw_V q1229 q1231 qs64 q88 q1232) rfl rfl rfl (by decide +kernel) ⟨Nat.le_of_ble_eq_true rfl, Nat.le_of_ble_eq_true rfl⟩) hKX hP hS (va_recv hK hP (ci := 1) (q0 := 0) rfl rfl) rfl hl.1 rfl (Nat.le_of_ble_eq_true rfl) dX1_first_11 ⟨Nat.le_of_ble_eq_true rfl, Nat.le_of_ble_eq_true rfl⟩ (fun H locs hP hS => ?_)
    refine zk_iconst hx hb dX1_first_14 ?_
    refine lv_istore_n (lv' := [(2, zk_I 1), (0, .ref o), (1, zk_I p1)]) hx hb dX1_first_15 rfl hl (by decide) rfl (fun ls hl => ?_)
    exact hL16 N _ _ _ H locs ls hf (lv_sub hl [1, 2, 0] rfl) hP hS
  · refine zk_iconst hx hb dX1_first_8 ?_
    exact zk_iret hx hb hr hlk (zk_p1 hf) (zk_pB hf hP) hS dX1_first_9
abbrev zw_X1_hasBy_rm : Room := { frames := 6, cells := 0, slots := 0, locals := 148 }
abbrev zw_X1_hasBy_vs (o : Nat) (p1 p2 p3 : Int) : List Value := [.ref o, zk_I p1, zk_I p2, zk_I p3]
set_option maxHeartbeats 4000000 in
set_option maxRecDepth 100000 in
theorem zw_X1_hasBy (l : Launch) {D : va_G} {o : Nat} {a : Nat → Nat} {dA : Nat → ClassId} {A : Nat → Prop} (hD : ∀ τ, va_D A (zm_P o a dA τ)) (N : Nat) (p1 p2 p3 : Int) (σ : ZS) (r : Int) (σ' : ZS) (hf : zm_hasBy N p1 p2 p3 σ = some (r, σ')) : zk_MW l yX1_hasBy (ws_ yX1_hasBy cX1_hasBy 6 (Option.some Jvm.ClassFile.FieldType.int)) zw_X1_hasBy_rm D zk_cl (zk_ty dA) A (zw_X1_hasBy_vs o p1 p2 p3) (zm_P o a dA σ) (zm_P o a dA σ') (some (zk_I r)) := by
  refine zk_startW (by decide +kernel) (Nat.le_of_ble_eq_true rfl) (fun p e s m below meth c H locs ls hx hb hr hlk hml hown hts hKX hP hS hl => ?_)
  have hl : lv_has ls 6 [(0, .ref o), (1, zk_I p1), (2, zk_I p2), (3, zk_I p3)] := hl
  have hK := hKX.1
  have hown : s.vm.findClass RX1 = some m.cls := hown
  have hf : zm_hasBy N p1 p2 p3 σ = some (r, σ') := hf
  have hJ43 : ∀ (x4 : Int) (s0 : ZS) (H : Heap) (locs : List Loc) (ls : Array Slot), zm_hasBy_j43 N x4 s0 = some (r, σ') → lv_has ls 6 [(4, zk_I x4)] → va_P D zk_cl (zm_P o a dA s0) H → va_S A s.heap H locs → W p l e zw_X1_hasBy_rm s m (zw_X1_hasBy_vs o p1 p2 p3).toArray below meth c H locs 0 0 (MQ below (zk_Q (some (zk_I r)) (fun t => va_P D zk_cl (zm_P o a dA σ') t.heap) A) (zw_X1_hasBy_vs o p1 p2 p3).toArray s 0 0 A) (F0 m 43 ls []) := by
    intro x4 s0 H locs ls hf hl hP hS
    refine zk_iload hx hb dX1_hasBy_43 (lv_at hl 0 rfl) ?_
    exact zk_iret hx hb hr hlk (zk_p1 hf) (zk_pB hf hP) hS dX1_hasBy_45
  have hL22 : ∀ (n : Nat) (x3 x4 x5 : Int) (s0 : ZS) (H : Heap) (locs : List Loc) (ls : Array Slot), zk_b (zk_loop (α := Int × Int × ZS) (β := Int × ZS) n (fun a => zm_hasBy_b22 N x3 a.1 a.2.1 a.2.2) (x4, x5, s0)) (fun e => zm_hasBy_j43 N e.1 e.2) = some (r, σ') → lv_has ls 6 [(0, .ref o), (3, zk_I x3), (4, zk_I x4), (5, zk_I x5)] → va_P D zk_cl (zm_P o a dA s0) H → va_S A s.heap H locs → W p l e zw_X1_hasBy_rm s m (zw_X1_hasBy_vs o p1 p2 p3).toArray below meth c H locs 0 0 (MQ below (zk_Q (some (zk_I r)) (fun t => va_P D zk_cl (zm_P o a dA σ') t.heap) A) (zw_X1_hasBy_vs o p1 p2 p3).toArray s 0 0 A) (F0 m 22 ls []) := by
    intro n
    induction n with
    | zero => intro x3 x4 x5 s0 H locs ls hf; exact (zk_l0 hf).elim
    | succ n ih22 =>
      intro x3 x4 x5 s0 H locs ls hf hl hP hS
      obtain ⟨c22, hf, hc22⟩ := zk_ls hf
      refine zk_iload hx hb dX1_hasBy_22 (lv_at hl 3 rfl) ?_
      refine zk_iloadn hx hb dX1_hasBy_24 rfl (lv_at hl 1 rfl) ?_
      refine zk_icmp_ge (tgt := 43) hx hb dX1_hasBy_25 (by decide) hf (fun h => h) (fun hf => ?_) (fun hf => ?_)
      · obtain rfl := zk_so hf
        exact hJ43 _ _ H locs ls hc22 (lv_sub hl [2] rfl) hP hS
      · refine lv_aload_n hx hb dX1_hasBy_28 rfl (lv_at hl 0 rfl) ?_
        refine zk_sipush hx hb dX1_hasBy_29 (by decide) ?_
        obtain ⟨v4, s5, hq, hf⟩ := zk_b2s hf
        refine zk_callVW (As := [zk_I 3284]) (rest := []) ⟨hx, hb, hml, hown, hts⟩ (zw_X1_passes l hD N 3284 s0 _ _ hq) (cwV 1 hts (lw_V q1169 q1171 qs59 q88 q1172) rfl rfl rfl (by decide +kernel) ⟨Nat.le_of_ble_eq_true rfl, Nat.le_of_ble_eq_true rfl⟩) hKX hP hS (va_recv hK hP (ci := 1) (q0 := 0) rfl rfl) rfl hl.1 rfl (Nat.le_of_ble_eq_true rfl) dX1_hasBy_32 ⟨Nat.le_of_ble_eq_true rfl, Nat.le_of_ble_eq_true rfl⟩ (fun H locs hP hS => ?_)
        refine lv_istore (lv' := [(4, zk_I v4), (0, .ref o), (3, zk_I x3), (5, zk_I x5)]) hx hb dX1_hasBy_35 hl (by decide) rfl (fun ls hl => ?_)
        refine zk_iincN (lv' := fun x5_6 => [(5, zk_I x5_6), (4, zk_I v4), (0, .ref o), (3, zk_I x3)]) hx hb dX1_hasBy_37 hl (k := 3) rfl (by decide) (fun _ => rfl) hf (fun x5_6 hf ls hl => ?_)
        refine lv_goto (tgt := 22) hx hb dX1_hasBy_40 (by decide) ?_
        obtain rfl := zk_so hf
        exact ih22 _ _ _ _ H locs ls hc22 (lv_sub hl [2, 3, 1, 0] rfl) hP hS
  refine lv_aload_n hx hb dX1_hasBy_0 rfl (lv_at hl 0 rfl) ?_
  obtain ⟨v1, s2, hq, hf⟩ := zk_b2s hf
  refine zk_callVW (As := []) (rest := []) ⟨hx, hb, hml, hown, hts⟩ (zw_X1_layTried l hD N  σ _ _ hq) (cwV 0 hts (lw_V q1229 q1231 qs64 q88 q1232) rfl rfl rfl (by decide +kernel) ⟨Nat.le_of_ble_eq_true rfl, Nat.le_of_ble_eq_true rfl⟩) hKX hP hS (va_recv hK hP (ci := 1) (q0 := 0) rfl rfl) rfl hl.1 rfl (Nat.le_of_ble_eq_true rfl) dX1_hasBy_1 ⟨Nat.le_of_ble_eq_true rfl, Nat.le_of_ble_eq_true rfl⟩ (fun H locs hP hS => ?_)
  refine lv_aload_n hx hb dX1_hasBy_4 rfl (lv_at hl 0 rfl) ?_
  refine zm_rget hx hb hts hown hK hP 0 (by decide) q949 rfl dX1_hasBy_5 ?_
  refine zk_sipush hx hb dX1_hasBy_8 (by decide) ?_
  refine zk_iloadn hx hb dX1_hasBy_11 rfl (lv_at hl 1 rfl) ?_
  refine zk_iadd hx hb dX1_hasBy_12 ?_
  refine zk_iloadn hx hb dX1_hasBy_13 rfl (lv_at hl 2 rfl) ?_
  refine zk_iastN hx hb hK hP hD hS 1 0 0 rfl rfl (N := 3305) ⟨by decide, by decide⟩ (zm_t0 _ _ _) hf dX1_hasBy_14 (fun s3 H locs hf hP hS => ?_)
  refine zk_bipush hx hb dX1_hasBy_15 (by decide) ?_
  refine lv_istore (lv' := [(4, zk_I (-9)), (0, .ref o), (1, zk_I p1), (2, zk_I p2), (3, zk_I p3)]) hx hb dX1_hasBy_17 hl (by decide) rfl (fun ls hl => ?_)
  refine zk_iconst hx hb dX1_hasBy_19 ?_
  refine lv_istore (lv' := [(5, zk_I 0), (4, zk_I (-9)), (0, .ref o), (1, zk_I p1), (2, zk_I p2), (3, zk_I p3)]) hx hb dX1_hasBy_20 hl (by decide) rfl (fun ls hl => ?_)
  exact hL22 N _ _ _ _ H locs ls hf (lv_sub hl [2, 5, 1, 0] rfl) hP hS
abbrev zw_X1_lift_rm : Room := { frames := 7, cells := 0, slots := 0, locals := 173 }
abbrev zw_X1_lift_vs (o : Nat) (p1 p2 : Int) : List Value := [.ref o, zk_I p1, zk_I p2]
set_option maxHeartbeats 4000000 in
set_option maxRecDepth 100000 in
theorem zw_X1_lift (l : Launch) {D : va_G} {o : Nat} {a : Nat → Nat} {dA : Nat → ClassId} {A : Nat → Prop} (hD : ∀ τ, va_D A (zm_P o a dA τ)) (N : Nat) (p1 p2 : Int) (σ : ZS) (r : Int) (σ' : ZS) (hf : zm_lift N p1 p2 σ = some (r, σ')) : zk_MW l yX1_lift (ws_ yX1_lift cX1_lift 4 (Option.some Jvm.ClassFile.FieldType.int)) zw_X1_lift_rm D zk_cl (zk_ty dA) A (zw_X1_lift_vs o p1 p2) (zm_P o a dA σ) (zm_P o a dA σ') (some (zk_I r)) := by
  refine zk_startW (by decide +kernel) (Nat.le_of_ble_eq_true rfl) (fun p e s m below meth c H locs ls hx hb hr hlk hml hown hts hKX hP hS hl => ?_)
  have hl : lv_has ls 4 [(0, .ref o), (1, zk_I p1), (2, zk_I p2)] := hl
  have hK := hKX.1
  have hown : s.vm.findClass RX1 = some m.cls := hown
  have hf : zm_lift N p1 p2 σ = some (r, σ') := hf
  have hJ69 : ∀ (s0 : ZS) (H : Heap) (locs : List Loc) (ls : Array Slot), zm_lift_j69 N  s0 = some (r, σ') → lv_has ls 4 [] → va_P D zk_cl (zm_P o a dA s0) H → va_S A s.heap H locs → W p l e zw_X1_lift_rm s m (zw_X1_lift_vs o p1 p2).toArray below meth c H locs 0 0 (MQ below (zk_Q (some (zk_I r)) (fun t => va_P D zk_cl (zm_P o a dA σ') t.heap) A) (zw_X1_lift_vs o p1 p2).toArray s 0 0 A) (F0 m 69 ls []) := by
    intro s0 H locs ls hf hl hP hS
    refine zk_bipush hx hb dX1_lift_69 (by decide) ?_
    exact zk_iret hx hb hr hlk (zk_p1 hf) (zk_pB hf hP) hS dX1_lift_71
  have hL24 : ∀ (n : Nat) (x1 x2 x3 : Int) (s0 : ZS) (H : Heap) (locs : List Loc) (ls : Array Slot), zk_b (zk_loop (α := Int × ZS) (β := (ZS) ⊕ (Int × ZS)) n (fun a => zm_lift_b24 N x1 x2 a.1 a.2) (x3, s0)) (zk_lr1 (fun e => zm_lift_j69 N e)) = some (r, σ') → lv_has ls 4 [(0, .ref o), (1, zk_I x1), (2, zk_I x2), (3, zk_I x3)] → va_P D zk_cl (zm_P o a dA s0) H → va_S A s.heap H locs → W p l e zw_X1_lift_rm s m (zw_X1_lift_vs o p1 p2).toArray below meth c H locs 0 0 (MQ below (zk_Q (some (zk_I r)) (fun t => va_P D zk_cl (zm_P o a dA σ') t.heap) A) (zw_X1_lift_vs o p1 p2).toArray s 0 0 A) (F0 m 24 ls []) := by
    intro n
    induction n with
    | zero => intro x1 x2 x3 s0 H locs ls hf; exact (zk_l0 hf).elim
    | succ n ih24 =>
      intro x1 x2 x3 s0 H locs ls hf hl hP hS
      obtain ⟨c24, hf, hc24⟩ := zk_ls hf
      refine lv_aload_n hx hb dX1_lift_24 rfl (lv_at hl 0 rfl) ?_
      refine zm_rget hx hb hts hown hK hP 0 (by decide) q949 rfl dX1_lift_25 ?_
      refine zk_bipush hx hb dX1_lift_28 (by decide) ?_
      refine zk_iloadn hx hb dX1_lift_30 rfl (lv_at hl 1 rfl) ?_
      refine zk_iadd hx hb dX1_lift_31 ?_
      refine zk_iald hx hb hK hP 1 0 rfl rfl (N := 3305) ⟨by decide, by decide⟩ hf dX1_lift_32 (fun hf => ?_)
      refine zk_iloadn hx hb dX1_lift_33 rfl (lv_at hl 3 rfl) ?_
      refine zk_iadd hx hb dX1_lift_34 ?_
      refine zk_bipush hx hb dX1_lift_35 (by decide) ?_
      refine zk_icmp_ge (tgt := 69) hx hb dX1_lift_37 (by decide) hf (fun h => ⟨h, by decide⟩) (fun hf => ?_) (fun hf => ?_)
      · obtain rfl := zk_so hf
        exact hJ69 _ H locs ls hc24 (lv_sub hl [] rfl) hP hS
      · refine lv_aload_n hx hb dX1_lift_40 rfl (lv_at hl 0 rfl) ?_
        refine zk_iloadn hx hb dX1_lift_41 rfl (lv_at hl 1 rfl) ?_
        refine lv_aload_n hx hb dX1_lift_42 rfl (lv_at hl 0 rfl) ?_
        refine zm_rget hx hb hts hown hK hP 0 (by decide) q949 rfl dX1_lift_43 ?_
        refine zk_bipush hx hb dX1_lift_46 (by decide) ?_
        refine zk_iloadn hx hb dX1_lift_48 rfl (lv_at hl 1 rfl) ?_
        refine zk_iadd hx hb dX1_lift_49 ?_
        refine zk_iald hx hb hK hP 1 0 rfl rfl (N := 3305) ⟨by decide, by decide⟩ hf dX1_lift_50 (fun hf => ?_)
        refine zk_iloadn hx hb dX1_lift_51 rfl (lv_at hl 3 rfl) ?_
        refine zk_iadd hx hb dX1_lift_52 ?_
        refine zk_iloadn hx hb dX1_lift_53 rfl (lv_at hl 2 rfl) ?_
        obtain ⟨v3, s4, hq, hf⟩ := zk_b2s hf
        refine zk_callVW (As := [zk_I x1, zk_I (s0 0 (9 + x1) + x3), zk_I x2]) (rest := []) ⟨hx, hb, hml, hown, hts⟩ (zw_X1_hasBy l hD N x1 (s0 0 (9 + x1) + x3) x2 s0 _ _ hq) (cwV 3 hts (lw_V q1245 q1247 qs65 q88 q1248) rfl rfl rfl (by decide +kernel) ⟨Nat.le_of_ble_eq_true rfl, Nat.le_of_ble_eq_true rfl⟩) hKX hP hS (va_recv hK hP (ci := 1) (q0 := 0) rfl rfl) rfl hl.1 rfl (Nat.le_of_ble_eq_true rfl) dX1_lift_54 ⟨Nat.le_of_ble_eq_true rfl, Nat.le_of_ble_eq_true rfl⟩ (fun H locs hP hS => ?_)
        refine zk_iloadn hx hb dX1_lift_57 rfl (lv_at hl 1 rfl) ?_
        refine zk_icmp_ne (tgt := 63) hx hb dX1_lift_58 (by decide) hf (fun h => h) (fun hf => ?_) (fun hf => ?_)
        · refine zk_iincN (lv' := fun x3_5 => [(3, zk_I x3_5), (0, .ref o), (1, zk_I x1), (2, zk_I x2)]) hx hb dX1_lift_63 hl (k := 3) rfl (by decide) (fun _ => rfl) hf (fun x3_5 hf ls hl => ?_)
          refine lv_goto (tgt := 24) hx hb dX1_lift_66 (by decide) ?_
          obtain rfl := zk_so hf
          exact ih24 _ _ _ _ H locs ls hc24 (lv_sub hl [1, 2, 3, 0] rfl) hP hS
        · refine zk_iloadn hx hb dX1_lift_61 rfl (lv_at hl 3 rfl) ?_
          obtain rfl := zk_so hf
          exact zk_iret hx hb hr hlk (zk_p1 hc24) (zk_pB hc24 hP) hS dX1_lift_62
  refine lv_aload_n hx hb dX1_lift_0 rfl (lv_at hl 0 rfl) ?_
  refine zk_iloadn hx hb dX1_lift_1 rfl (lv_at hl 1 rfl) ?_
  obtain ⟨v1, hq, hf⟩ := zk_bs hf
  refine zk_callVR (As := [zk_I p1]) (rest := []) ⟨hx, hb, hml, hown, hts⟩ (zw_X1_isOne l p1 σ _ hq) (cwV 1 hts (lw_V q1127 q1129 qs52 q88 q1130) rfl rfl rfl (by decide +kernel) ⟨Nat.le_of_ble_eq_true rfl, Nat.le_of_ble_eq_true rfl⟩) hKX hP hS (va_recv hK hP (ci := 1) (q0 := 0) rfl rfl) rfl hl.1 rfl (Nat.le_of_ble_eq_true rfl) dX1_lift_2 ⟨Nat.le_of_ble_eq_true rfl, Nat.le_of_ble_eq_true rfl⟩ (fun H locs hP hS => ?_)
  refine zk_if_eq (tgt := 20) hx hb dX1_lift_5 (by decide) hf (fun h => h) (fun hf => ?_) (fun hf => ?_)
  · refine zk_iconst hx hb dX1_lift_20 ?_
    exact zk_iret hx hb hr hlk (zk_p1 hf) (zk_pB hf hP) hS dX1_lift_21
  · refine zk_iloadn hx hb dX1_lift_8 rfl (lv_at hl 2 rfl) ?_
    refine zk_ri2l hx hb dX1_lift_9 hf (fun hf => ?_)
    refine zk_lconst (v := 1) hx hb dX1_lift_10 rfl ?_
    refine zk_ldc2 hx hb 20 hown (hts _ q1193) rfl dX1_lift_11 ?_
    obtain ⟨v2, hq, hf⟩ := zk_bs hf
    refine zk_callSS (As := [zk_L p2, zk_L 1, zk_L 20]) (rest := []) ⟨hx, hb, hml, hown, hts⟩ (zw_X1_in l p2 1 20 _ hq) (va_cwS 3 hts (lw_S q1027 q1028 q88 q1029) rfl rfl rfl (by decide +kernel) ⟨Nat.le_of_ble_eq_true rfl, Nat.le_of_ble_eq_true rfl⟩) hP hS rfl hl.1 rfl (Nat.le_of_ble_eq_true rfl) dX1_lift_14 ⟨Nat.le_of_ble_eq_true rfl, Nat.le_of_ble_eq_true rfl⟩ (fun H locs hP hS => ?_)
    refine zk_if_ne (tgt := 22) hx hb dX1_lift_17 (by decide) hf (fun h => h) (fun hf => ?_) (fun hf => ?_)
    · refine zk_iconst hx hb dX1_lift_22 ?_
      refine lv_istore_n (lv' := [(3, zk_I 0), (0, .ref o), (1, zk_I p1), (2, zk_I p2)]) hx hb dX1_lift_23 rfl hl (by decide) rfl (fun ls hl => ?_)
      exact hL24 N _ _ _ _ H locs ls hf (lv_sub hl [1, 2, 3, 0] rfl) hP hS
    · refine zk_iconst hx hb dX1_lift_20 ?_
      exact zk_iret hx hb hr hlk (zk_p1 hf) (zk_pB hf hP) hS dX1_lift_21
