abbrev zw_X1_isAhead_rm : Room := { frames := 3, cells := 0, slots := 0, locals := 75 }
abbrev zw_X1_isAhead_vs (o : Nat) (p1 p2 p3 p4 : Int) : List Value := [.ref o, zk_I p1, zk_I p2, zk_I p3, zk_I p4]
set_option maxHeartbeats 4000000 in
set_option maxRecDepth 100000 in
theorem zw_X1_isAhead (l : Launch) {D : va_G} {o : Nat} {a : Nat → Nat} {dA : Nat → ClassId} (p1 p2 p3 p4 : Int) (σ : ZS) (r : Int) (hf : zm_isAhead p1 p2 p3 p4 σ = some r) : zk_MR l yX1_isAhead (ws_ yX1_isAhead cX1_isAhead 7 (Option.some Jvm.ClassFile.FieldType.boolean)) zw_X1_isAhead_rm D zk_cl (zk_ty dA) (zw_X1_isAhead_vs o p1 p2 p3 p4) (zm_P o a dA σ) (some (zk_I r)) := by
  refine zk_startW (by decide +kernel) (Nat.le_of_ble_eq_true rfl) (fun p e s m below meth c H locs ls hx hb hr hlk hml hown hts hKX hP hS hl => ?_)
  have hl : lv_has ls 7 [(0, .ref o), (1, zk_I p1), (2, zk_I p2), (3, zk_I p3), (4, zk_I p4)] := hl
  have hK := hKX.1
  have hown : s.vm.findClass RX1 = some m.cls := hown
  have hf : zm_isAhead p1 p2 p3 p4 σ = some r := hf
  have hJ65 : ∀ (x2 x5 y0 : Int) (H : Heap) (locs : List Loc) (ls : Array Slot), zm_isAhead_j65 x2 x5 y0 σ = some r → lv_has ls 7 [(2, zk_I x2), (5, zk_I x5)] → va_P D zk_cl (zm_P o a dA σ) H → va_S (fun _ => False) s.heap H locs → W p l e zw_X1_isAhead_rm s m (zw_X1_isAhead_vs o p1 p2 p3 p4).toArray below meth c H locs 0 0 (MQ below (zk_Q (some (zk_I r)) (fun _ => True) (fun _ => False)) (zw_X1_isAhead_vs o p1 p2 p3 p4).toArray s 0 0 (fun _ => False)) (F0 m 65 ls [zk_I y0]) := by
    intro x2 x5 y0 H locs ls hf hl hP hS
    refine lv_istore (lv' := [(6, zk_I y0), (2, zk_I x2), (5, zk_I x5)]) hx hb dX1_isAhead_65 hl (by decide) rfl (fun ls hl => ?_)
    refine zk_iload hx hb dX1_isAhead_67 (lv_at hl 2 rfl) ?_
    refine zk_iloadn hx hb dX1_isAhead_69 rfl (lv_at hl 1 rfl) ?_
    refine zk_icmp_lt (tgt := 84) hx hb dX1_isAhead_70 (by decide) hf (fun h => h) (fun hf => ?_) (fun hf => ?_)
    · refine zk_iconst hx hb dX1_isAhead_84 ?_
      refine lv_goto (tgt := 89) hx hb dX1_isAhead_85 (by decide) ?_
      exact zk_zret hx hb hr hlk (Or.inr rfl) (Option.some.inj hf) (fun _ _ => trivial) hS dX1_isAhead_89
    · refine zk_iload hx hb dX1_isAhead_73 (lv_at hl 2 rfl) ?_
      refine zk_iloadn hx hb dX1_isAhead_75 rfl (lv_at hl 1 rfl) ?_
      refine zk_icmp_ne (tgt := 88) hx hb dX1_isAhead_76 (by decide) hf (fun h => h) (fun hf => ?_) (fun hf => ?_)
      · refine zk_iconst hx hb dX1_isAhead_88 ?_
        exact zk_zret hx hb hr hlk (Or.inl rfl) (Option.some.inj hf) (fun _ _ => trivial) hS dX1_isAhead_89
      · refine zk_iload hx hb dX1_isAhead_79 (lv_at hl 0 rfl) ?_
        refine zk_if_eq (tgt := 88) hx hb dX1_isAhead_81 (by decide) hf (fun h => h) (fun hf => ?_) (fun hf => ?_)
        · refine zk_iconst hx hb dX1_isAhead_88 ?_
          exact zk_zret hx hb hr hlk (Or.inl rfl) (Option.some.inj hf) (fun _ _ => trivial) hS dX1_isAhead_89
        · refine zk_iconst hx hb dX1_isAhead_84 ?_
          refine lv_goto (tgt := 89) hx hb dX1_isAhead_85 (by decide) ?_
          exact zk_zret hx hb hr hlk (Or.inr rfl) (Option.some.inj hf) (fun _ _ => trivial) hS dX1_isAhead_89
  have hJ64 : ∀ (x2 x5 : Int) (H : Heap) (locs : List Loc) (ls : Array Slot), zm_isAhead_j64 x2 x5 σ = some r → lv_has ls 7 [(2, zk_I x2), (5, zk_I x5)] → va_P D zk_cl (zm_P o a dA σ) H → va_S (fun _ => False) s.heap H locs → W p l e zw_X1_isAhead_rm s m (zw_X1_isAhead_vs o p1 p2 p3 p4).toArray below meth c H locs 0 0 (MQ below (zk_Q (some (zk_I r)) (fun _ => True) (fun _ => False)) (zw_X1_isAhead_vs o p1 p2 p3 p4).toArray s 0 0 (fun _ => False)) (F0 m 64 ls []) := by
    intro x2 x5 H locs ls hf hl hP hS
    refine zk_iconst hx hb dX1_isAhead_64 ?_
    exact hJ65 _ _ _ H locs ls hf (lv_sub hl [0, 1] rfl) hP hS
  refine lv_aload_n hx hb dX1_isAhead_0 rfl (lv_at hl 0 rfl) ?_
  refine zm_rget hx hb hts hown hK hP 2 (by decide) q951 rfl dX1_isAhead_1 ?_
  refine zk_iloadn hx hb dX1_isAhead_4 rfl (lv_at hl 3 rfl) ?_
  refine zk_iald hx hb hK hP 2 0 rfl rfl (N := 6) ⟨by decide, by decide⟩ hf dX1_isAhead_5 (fun hf => ?_)
  refine zk_iload hx hb dX1_isAhead_6 (lv_at hl 4 rfl) ?_
  refine lv_aload_n hx hb dX1_isAhead_8 rfl (lv_at hl 0 rfl) ?_
  refine zm_rget hx hb hts hown hK hP 0 (by decide) q949 rfl dX1_isAhead_9 ?_
  refine zk_iconst hx hb dX1_isAhead_12 ?_
  refine zk_iald hx hb hK hP 1 0 rfl rfl (N := 3305) ⟨by decide, by decide⟩ hf dX1_isAhead_13 (fun hf => ?_)
  refine lv_aload_n hx hb dX1_isAhead_14 rfl (lv_at hl 0 rfl) ?_
  refine zk_iconst hx hb dX1_isAhead_15 ?_
  refine zk_iloadn hx hb dX1_isAhead_16 rfl (lv_at hl 3 rfl) ?_
  obtain ⟨v1, hq, hf⟩ := zk_bs hf
  refine zk_callVR (As := [zk_I 0, zk_I p3]) (rest := [zk_I (σ 0 1), zk_I p4, zk_I (σ 2 p3)]) ⟨hx, hb, hml, hown, hts⟩ (zw_X1_farOf l 0 p3 σ _ hq) (cwV 2 hts (lw_V q1139 q1141 qs55 q88 q1142) rfl rfl rfl (by decide +kernel) ⟨Nat.le_of_ble_eq_true rfl, Nat.le_of_ble_eq_true rfl⟩) hKX hP hS (va_recv hK hP (ci := 1) (q0 := 0) rfl rfl) rfl hl.1 rfl (Nat.le_of_ble_eq_true rfl) dX1_isAhead_17 ⟨Nat.le_of_ble_eq_true rfl, Nat.le_of_ble_eq_true rfl⟩ (fun H locs hP hS => ?_)
  obtain ⟨v2, hq, hf⟩ := zk_bs hf
  refine zk_callSS (As := [zk_I (σ 2 p3), zk_I p4, zk_I (σ 0 1), zk_I v1]) (rest := []) ⟨hx, hb, hml, hown, hts⟩ (zw_X1_daresBy l (σ 2 p3) p4 (σ 0 1) v1 _ hq) (va_cwS 4 hts (lw_S q1146 q1147 q88 q1148) rfl rfl rfl (by decide +kernel) ⟨Nat.le_of_ble_eq_true rfl, Nat.le_of_ble_eq_true rfl⟩) hP hS rfl hl.1 rfl (Nat.le_of_ble_eq_true rfl) dX1_isAhead_20 ⟨Nat.le_of_ble_eq_true rfl, Nat.le_of_ble_eq_true rfl⟩ (fun H locs hP hS => ?_)
  refine lv_istore (lv' := [(5, zk_I v2), (0, .ref o), (1, zk_I p1), (2, zk_I p2), (3, zk_I p3), (4, zk_I p4)]) hx hb dX1_isAhead_23 hl (by decide) rfl (fun ls hl => ?_)
  refine lv_aload_n hx hb dX1_isAhead_25 rfl (lv_at hl 1 rfl) ?_
  refine zk_iconst hx hb dX1_isAhead_26 ?_
  refine zk_iloadn hx hb dX1_isAhead_27 rfl (lv_at hl 2 rfl) ?_
  obtain ⟨v3, hq, hf⟩ := zk_bs hf
  refine zk_callVR (As := [zk_I 0, zk_I p1]) (rest := []) ⟨hx, hb, hml, hown, hts⟩ (zw_X1_farOf l 0 p1 σ _ hq) (cwV 2 hts (lw_V q1139 q1141 qs55 q88 q1142) rfl rfl rfl (by decide +kernel) ⟨Nat.le_of_ble_eq_true rfl, Nat.le_of_ble_eq_true rfl⟩) hKX hP hS (va_recv hK hP (ci := 1) (q0 := 0) rfl rfl) rfl hl.1 rfl (Nat.le_of_ble_eq_true rfl) dX1_isAhead_28 ⟨Nat.le_of_ble_eq_true rfl, Nat.le_of_ble_eq_true rfl⟩ (fun H locs hP hS => ?_)
  refine lv_aload_n hx hb dX1_isAhead_31 rfl (lv_at hl 1 rfl) ?_
  refine zk_iconst hx hb dX1_isAhead_32 ?_
  refine zk_iloadn hx hb dX1_isAhead_33 rfl (lv_at hl 4 rfl) ?_
  obtain ⟨v4, hq, hf⟩ := zk_bs hf
  refine zk_callVR (As := [zk_I 0, zk_I p3]) (rest := [zk_I v3]) ⟨hx, hb, hml, hown, hts⟩ (zw_X1_farOf l 0 p3 σ _ hq) (cwV 2 hts (lw_V q1139 q1141 qs55 q88 q1142) rfl rfl rfl (by decide +kernel) ⟨Nat.le_of_ble_eq_true rfl, Nat.le_of_ble_eq_true rfl⟩) hKX hP hS (va_recv hK hP (ci := 1) (q0 := 0) rfl rfl) rfl hl.1 rfl (Nat.le_of_ble_eq_true rfl) dX1_isAhead_34 ⟨Nat.le_of_ble_eq_true rfl, Nat.le_of_ble_eq_true rfl⟩ (fun H locs hP hS => ?_)
  refine zk_icmp_lt (tgt := 60) hx hb dX1_isAhead_37 (by decide) hf (fun h => h) (fun hf => ?_) (fun hf => ?_)
  · refine zk_iconst hx hb dX1_isAhead_60 ?_
    refine lv_goto (tgt := 65) hx hb dX1_isAhead_61 (by decide) ?_
    exact hJ65 _ _ _ H locs ls hf (lv_sub hl [3, 0] rfl) hP hS
  · refine lv_aload_n hx hb dX1_isAhead_40 rfl (lv_at hl 1 rfl) ?_
    refine zk_iconst hx hb dX1_isAhead_41 ?_
    refine zk_iloadn hx hb dX1_isAhead_42 rfl (lv_at hl 2 rfl) ?_
    obtain ⟨v5, hq, hf⟩ := zk_bs hf
    refine zk_callVR (As := [zk_I 0, zk_I p1]) (rest := []) ⟨hx, hb, hml, hown, hts⟩ (zw_X1_farOf l 0 p1 σ _ hq) (cwV 2 hts (lw_V q1139 q1141 qs55 q88 q1142) rfl rfl rfl (by decide +kernel) ⟨Nat.le_of_ble_eq_true rfl, Nat.le_of_ble_eq_true rfl⟩) hKX hP hS (va_recv hK hP (ci := 1) (q0 := 0) rfl rfl) rfl hl.1 rfl (Nat.le_of_ble_eq_true rfl) dX1_isAhead_43 ⟨Nat.le_of_ble_eq_true rfl, Nat.le_of_ble_eq_true rfl⟩ (fun H locs hP hS => ?_)
    refine lv_aload_n hx hb dX1_isAhead_46 rfl (lv_at hl 1 rfl) ?_
    refine zk_iconst hx hb dX1_isAhead_47 ?_
    refine zk_iloadn hx hb dX1_isAhead_48 rfl (lv_at hl 4 rfl) ?_
    obtain ⟨v6, hq, hf⟩ := zk_bs hf
    refine zk_callVR (As := [zk_I 0, zk_I p3]) (rest := [zk_I v5]) ⟨hx, hb, hml, hown, hts⟩ (zw_X1_farOf l 0 p3 σ _ hq) (cwV 2 hts (lw_V q1139 q1141 qs55 q88 q1142) rfl rfl rfl (by decide +kernel) ⟨Nat.le_of_ble_eq_true rfl, Nat.le_of_ble_eq_true rfl⟩) hKX hP hS (va_recv hK hP (ci := 1) (q0 := 0) rfl rfl) rfl hl.1 rfl (Nat.le_of_ble_eq_true rfl) dX1_isAhead_49 ⟨Nat.le_of_ble_eq_true rfl, Nat.le_of_ble_eq_true rfl⟩ (fun H locs hP hS => ?_)
    refine zk_icmp_ne (tgt := 64) hx hb dX1_isAhead_52 (by decide) hf (fun h => h) (fun hf => ?_) (fun hf => ?_)
    · exact hJ64 _ _ H locs ls hf (lv_sub hl [3, 0] rfl) hP hS
    · refine zk_iloadn hx hb dX1_isAhead_55 rfl (lv_at hl 2 rfl) ?_
      refine zk_iloadn hx hb dX1_isAhead_56 rfl (lv_at hl 4 rfl) ?_
      refine zk_icmp_ge (tgt := 64) hx hb dX1_isAhead_57 (by decide) hf (fun h => h) (fun hf => ?_) (fun hf => ?_)
      · exact hJ64 _ _ H locs ls hf (lv_sub hl [3, 0] rfl) hP hS
      · refine zk_iconst hx hb dX1_isAhead_60 ?_
        refine lv_goto (tgt := 65) hx hb dX1_isAhead_61 (by decide) ?_
        exact hJ65 _ _ _ H locs ls hf (lv_sub hl [3, 0] rfl) hP hS
abbrev zw_X1_shamed_rm : Room := { frames := 4, cells := 0, slots := 0, locals := 101 }
abbrev zw_X1_shamed_vs (o : Nat) (p1 p2 p3 : Int) : List Value := [.ref o, zk_I p1, zk_I p2, zk_I p3]
set_option maxHeartbeats 4000000 in
set_option maxRecDepth 100000 in
theorem zw_X1_shamed (l : Launch) {D : va_G} {o : Nat} {a : Nat → Nat} {dA : Nat → ClassId} (N : Nat) (p1 p2 p3 : Int) (σ : ZS) (r : Int) (hf : zm_shamed N p1 p2 p3 σ = some r) : zk_MR l yX1_shamed (ws_ yX1_shamed cX1_shamed 5 (Option.some Jvm.ClassFile.FieldType.int)) zw_X1_shamed_rm D zk_cl (zk_ty dA) (zw_X1_shamed_vs o p1 p2 p3) (zm_P o a dA σ) (some (zk_I r)) := by
  refine zk_startW (by decide +kernel) (Nat.le_of_ble_eq_true rfl) (fun p e s m below meth c H locs ls hx hb hr hlk hml hown hts hKX hP hS hl => ?_)
  have hl : lv_has ls 5 [(0, .ref o), (1, zk_I p1), (2, zk_I p2), (3, zk_I p3)] := hl
  have hK := hKX.1
  have hown : s.vm.findClass RX1 = some m.cls := hown
  have hf : zm_shamed N p1 p2 p3 σ = some r := hf
  have hJ48 : ∀ (H : Heap) (locs : List Loc) (ls : Array Slot), zm_shamed_j48 N  σ = some r → lv_has ls 5 [] → va_P D zk_cl (zm_P o a dA σ) H → va_S (fun _ => False) s.heap H locs → W p l e zw_X1_shamed_rm s m (zw_X1_shamed_vs o p1 p2 p3).toArray below meth c H locs 0 0 (MQ below (zk_Q (some (zk_I r)) (fun _ => True) (fun _ => False)) (zw_X1_shamed_vs o p1 p2 p3).toArray s 0 0 (fun _ => False)) (F0 m 48 ls []) := by
    intro H locs ls hf hl hP hS
    refine zk_bipush hx hb dX1_shamed_48 (by decide) ?_
    exact zk_iret hx hb hr hlk (Option.some.inj hf) (fun _ _ => trivial) hS dX1_shamed_50
  have hL3 : ∀ (n : Nat) (x1 x2 x3 x4 : Int) (H : Heap) (locs : List Loc) (ls : Array Slot), zk_b (zk_loop (α := Int) (β := (Unit) ⊕ (Int)) n (fun a => zm_shamed_b3 N x1 x2 x3 a σ) (x4)) (zk_lr1 (fun e => zm_shamed_j48 N σ)) = some r → lv_has ls 5 [(0, .ref o), (1, zk_I x1), (2, zk_I x2), (3, zk_I x3), (4, zk_I x4)] → va_P D zk_cl (zm_P o a dA σ) H → va_S (fun _ => False) s.heap H locs → W p l e zw_X1_shamed_rm s m (zw_X1_shamed_vs o p1 p2 p3).toArray below meth c H locs 0 0 (MQ below (zk_Q (some (zk_I r)) (fun _ => True) (fun _ => False)) (zw_X1_shamed_vs o p1 p2 p3).toArray s 0 0 (fun _ => False)) (F0 m 3 ls []) := by
    intro n
    induction n with
    | zero => intro x1 x2 x3 x4 H locs ls hf; exact (zk_l0 hf).elim
    | succ n ih3 =>
      intro x1 x2 x3 x4 H locs ls hf hl hP hS
      obtain ⟨c3, hf, hc3⟩ := zk_ls hf
      refine zk_iload hx hb dX1_shamed_3 (lv_at hl 4 rfl) ?_
      refine lv_aload_n hx hb dX1_shamed_5 rfl (lv_at hl 0 rfl) ?_
      refine zm_rget hx hb hts hown hK hP 0 (by decide) q949 rfl dX1_shamed_6 ?_
      refine zk_bipush hx hb dX1_shamed_9 (by decide) ?_
      refine zk_iloadn hx hb dX1_shamed_11 rfl (lv_at hl 3 rfl) ?_
      refine zk_iadd hx hb dX1_shamed_12 ?_
      refine zk_iald hx hb hK hP 1 0 rfl rfl (N := 3305) ⟨by decide, by decide⟩ hf dX1_shamed_13 (fun hf => ?_)
      refine zk_icmp_gt (tgt := 48) hx hb dX1_shamed_14 (by decide) hf (fun h => h) (fun hf => ?_) (fun hf => ?_)
      · obtain rfl := zk_so hf
        exact hJ48  H locs ls hc3 (lv_sub hl [] rfl) hP hS
      · refine lv_aload_n hx hb dX1_shamed_17 rfl (lv_at hl 0 rfl) ?_
        refine zk_iloadn hx hb dX1_shamed_18 rfl (lv_at hl 1 rfl) ?_
        refine zk_iloadn hx hb dX1_shamed_19 rfl (lv_at hl 2 rfl) ?_
        refine zk_iloadn hx hb dX1_shamed_20 rfl (lv_at hl 3 rfl) ?_
        refine lv_aload_n hx hb dX1_shamed_21 rfl (lv_at hl 0 rfl) ?_
        refine zm_rget hx hb hts hown hK hP 0 (by decide) q949 rfl dX1_shamed_22 ?_
        refine zk_bipush hx hb dX1_shamed_25 (by decide) ?_
        refine zk_iloadn hx hb dX1_shamed_27 rfl (lv_at hl 3 rfl) ?_
        refine zk_iadd hx hb dX1_shamed_28 ?_
        refine zk_iald hx hb hK hP 1 0 rfl rfl (N := 3305) ⟨by decide, by decide⟩ hf dX1_shamed_29 (fun hf => ?_)
        refine zk_iload hx hb dX1_shamed_30 (lv_at hl 4 rfl) ?_
        refine zk_isub hx hb dX1_shamed_32 ?_
        obtain ⟨v1, hq, hf⟩ := zk_bs hf
        refine zk_callVR (As := [zk_I x1, zk_I x2, zk_I x3, zk_I (σ 0 (9 + x3) - x4)]) (rest := []) ⟨hx, hb, hml, hown, hts⟩ (zw_X1_isAhead l x1 x2 x3 (σ 0 (9 + x3) - x4) σ _ hq) (cwV 4 hts (lw_V q1262 q1264 qs68 q88 q1265) rfl rfl rfl (by decide +kernel) ⟨Nat.le_of_ble_eq_true rfl, Nat.le_of_ble_eq_true rfl⟩) hKX hP hS (va_recv hK hP (ci := 1) (q0 := 0) rfl rfl) rfl hl.1 rfl (Nat.le_of_ble_eq_true rfl) dX1_shamed_33 ⟨Nat.le_of_ble_eq_true rfl, Nat.le_of_ble_eq_true rfl⟩ (fun H locs hP hS => ?_)
        refine zk_if_eq (tgt := 42) hx hb dX1_shamed_36 (by decide) hf (fun h => h) (fun hf => ?_) (fun hf => ?_)
        · refine zk_iincN (lv' := fun x4_2 => [(4, zk_I x4_2), (0, .ref o), (1, zk_I x1), (2, zk_I x2), (3, zk_I x3)]) hx hb dX1_shamed_42 hl (k := 4) rfl (by decide) (fun _ => rfl) hf (fun x4_2 hf ls hl => ?_)
          refine lv_goto (tgt := 3) hx hb dX1_shamed_45 (by decide) ?_
          obtain rfl := zk_so hf
          exact ih3 _ _ _ _ H locs ls hc3 (lv_sub hl [1, 2, 3, 4, 0] rfl) hP hS
        · refine zk_iload hx hb dX1_shamed_39 (lv_at hl 4 rfl) ?_
          obtain rfl := zk_so hf
          exact zk_iret hx hb hr hlk (Option.some.inj hc3) (fun _ _ => trivial) hS dX1_shamed_41
  refine zk_iconst hx hb dX1_shamed_0 ?_
  refine lv_istore (lv' := [(4, zk_I 0), (0, .ref o), (1, zk_I p1), (2, zk_I p2), (3, zk_I p3)]) hx hb dX1_shamed_1 hl (by decide) rfl (fun ls hl => ?_)
  exact hL3 N _ _ _ _ H locs ls hf (lv_sub hl [1, 2, 3, 4, 0] rfl) hP hS
abbrev zw_X1_together_rm : Room := { frames := 5, cells := 0, slots := 0, locals := 125 }
abbrev zw_X1_together_vs (o : Nat) (p1 p2 : Int) : List Value := [.ref o, zk_I p1, zk_I p2]
set_option maxHeartbeats 4000000 in
set_option maxRecDepth 100000 in
theorem zw_X1_together (l : Launch) {D : va_G} {o : Nat} {a : Nat → Nat} {dA : Nat → ClassId} {A : Nat → Prop} (hD : ∀ τ, va_D A (zm_P o a dA τ)) (N : Nat) (p1 p2 : Int) (σ : ZS) (r : Int) (σ' : ZS) (hf : zm_together N p1 p2 σ = some (r, σ')) : zk_MW l yX1_together (ws_ yX1_together cX1_together 6 (Option.some Jvm.ClassFile.FieldType.int)) zw_X1_together_rm D zk_cl (zk_ty dA) A (zw_X1_together_vs o p1 p2) (zm_P o a dA σ) (zm_P o a dA σ') (some (zk_I r)) := by
  refine zk_startW (by decide +kernel) (Nat.le_of_ble_eq_true rfl) (fun p e s m below meth c H locs ls hx hb hr hlk hml hown hts hKX hP hS hl => ?_)
  have hl : lv_has ls 6 [(0, .ref o), (1, zk_I p1), (2, zk_I p2)] := hl
  have hK := hKX.1
  have hown : s.vm.findClass RX1 = some m.cls := hown
  have hf : zm_together N p1 p2 σ = some (r, σ') := hf
  have hJ118 : ∀ (x3 x4 : Int) (s0 : ZS) (H : Heap) (locs : List Loc) (ls : Array Slot), zm_together_j118 N x3 x4 s0 = some (r, σ') → lv_has ls 6 [(3, zk_I x3), (4, zk_I x4)] → va_P D zk_cl (zm_P o a dA s0) H → va_S A s.heap H locs → W p l e zw_X1_together_rm s m (zw_X1_together_vs o p1 p2).toArray below meth c H locs 0 0 (MQ below (zk_Q (some (zk_I r)) (fun t => va_P D zk_cl (zm_P o a dA σ') t.heap) A) (zw_X1_together_vs o p1 p2).toArray s 0 0 A) (F0 m 118 ls []) := by
    intro x3 x4 s0 H locs ls hf hl hP hS
    refine zk_iloadn hx hb dX1_together_118 rfl (lv_at hl 0 rfl) ?_
    refine zk_if_le (tgt := 127) hx hb dX1_together_119 (by decide) hf (fun h => h) (fun hf => ?_) (fun hf => ?_)
    · refine zk_ldc hx hb 99999 hown (hts _ q1253) rfl dX1_together_127 ?_
      exact zk_iret hx hb hr hlk (zk_p1 hf) (zk_pB hf hP) hS dX1_together_129
    · refine zk_iload hx hb dX1_together_122 (lv_at hl 1 rfl) ?_
      refine lv_goto (tgt := 129) hx hb dX1_together_124 (by decide) ?_
      exact zk_iret hx hb hr hlk (zk_p1 hf) (zk_pB hf hP) hS dX1_together_129
  have hL39 : ∀ (n : Nat) (x1 x2 x3 x4 x5 : Int) (s0 : ZS) (H : Heap) (locs : List Loc) (ls : Array Slot), zk_b (zk_loop (α := Int × Int × ZS) (β := Int × ZS) n (fun a => zm_together_b39 N x1 x2 x3 a.1 a.2.1 a.2.2) (x4, x5, s0)) (fun e => zm_together_j118 N x3 e.1 e.2) = some (r, σ') → lv_has ls 6 [(0, .ref o), (1, zk_I x1), (2, zk_I x2), (3, zk_I x3), (4, zk_I x4), (5, zk_I x5)] → va_P D zk_cl (zm_P o a dA s0) H → va_S A s.heap H locs → W p l e zw_X1_together_rm s m (zw_X1_together_vs o p1 p2).toArray below meth c H locs 0 0 (MQ below (zk_Q (some (zk_I r)) (fun t => va_P D zk_cl (zm_P o a dA σ') t.heap) A) (zw_X1_together_vs o p1 p2).toArray s 0 0 A) (F0 m 39 ls []) := by
    intro n
    induction n with
    | zero => intro x1 x2 x3 x4 x5 s0 H locs ls hf; exact (zk_l0 hf).elim
    | succ n ih39 =>
      intro x1 x2 x3 x4 x5 s0 H locs ls hf hl hP hS
      obtain ⟨c39, hf, hc39⟩ := zk_ls hf
      have hJ109 : ∀ (x5 y0 y1 : Int) (s0 : ZS) (H : Heap) (locs : List Loc) (ls : Array Slot), zm_together_j109 N x1 x2 x3 x5 y0 y1 s0 = some c39 → lv_has ls 6 [(0, .ref o), (1, zk_I x1), (2, zk_I x2), (3, zk_I x3), (5, zk_I x5)] → va_P D zk_cl (zm_P o a dA s0) H → va_S A s.heap H locs → W p l e zw_X1_together_rm s m (zw_X1_together_vs o p1 p2).toArray below meth c H locs 0 0 (MQ below (zk_Q (some (zk_I r)) (fun t => va_P D zk_cl (zm_P o a dA σ') t.heap) A) (zw_X1_together_vs o p1 p2).toArray s 0 0 A) (F0 m 109 ls [zk_I y1, zk_I y0]) := by
        intro x5 y0 y1 s0 H locs ls hf hl hP hS
        refine zk_iadd hx hb dX1_together_109 ?_
        refine zk_istoreN (lv' := fun x4_5 => [(4, zk_I x4_5), (0, .ref o), (1, zk_I x1), (2, zk_I x2), (3, zk_I x3), (5, zk_I x5)]) hx hb dX1_together_110 hl (by decide) (fun _ => rfl) hf (fun x4_5 hf ls hl => ?_)
        refine zk_iincN (lv' := fun x5_6 => [(5, zk_I x5_6), (4, zk_I x4_5), (0, .ref o), (1, zk_I x1), (2, zk_I x2), (3, zk_I x3)]) hx hb dX1_together_112 hl (k := 5) rfl (by decide) (fun _ => rfl) hf (fun x5_6 hf ls hl => ?_)
        refine lv_goto (tgt := 39) hx hb dX1_together_115 (by decide) ?_
        obtain rfl := zk_so hf
        exact ih39 _ _ _ _ _ _ H locs ls hc39 (lv_sub hl [2, 3, 4, 5, 1, 0] rfl) hP hS
      have hJ72 : ∀ (x4 x5 y0 y1 : Int) (s0 : ZS) (H : Heap) (locs : List Loc) (ls : Array Slot), zm_together_j72 N x1 x2 x3 x4 x5 y0 y1 s0 = some c39 → lv_has ls 6 [(0, .ref o), (1, zk_I x1), (2, zk_I x2), (3, zk_I x3), (4, zk_I x4), (5, zk_I x5)] → va_P D zk_cl (zm_P o a dA s0) H → va_S A s.heap H locs → W p l e zw_X1_together_rm s m (zw_X1_together_vs o p1 p2).toArray below meth c H locs 0 0 (MQ below (zk_Q (some (zk_I r)) (fun t => va_P D zk_cl (zm_P o a dA σ') t.heap) A) (zw_X1_together_vs o p1 p2).toArray s 0 0 A) (F0 m 72 ls [zk_I y1, zk_I y0, .ref (a 18)]) := by
        intro x4 x5 y0 y1 s0 H locs ls hf hl hP hS
        refine zk_iastN hx hb hK hP hD hS 9 0 18 rfl rfl (N := 6) ⟨by decide, by decide⟩ (zm_t18 _ _ _) hf dX1_together_72 (fun s4 H locs hf hP hS => ?_)
        refine zk_iload hx hb dX1_together_73 (lv_at hl 4 rfl) ?_
        refine lv_aload_n hx hb dX1_together_75 rfl (lv_at hl 0 rfl) ?_
        refine zm_rget hx hb hts hown hK hP 18 (by decide) q967 rfl dX1_together_76 ?_
        refine zk_iload hx hb dX1_together_79 (lv_at hl 5 rfl) ?_
        refine zk_iald hx hb hK hP 9 0 rfl rfl (N := 6) ⟨by decide, by decide⟩ hf dX1_together_81 (fun hf => ?_)
        refine zk_bipush hx hb dX1_together_82 (by decide) ?_
        refine zk_icmp_ne (tgt := 92) hx hb dX1_together_84 (by decide) hf (fun h => ⟨h, by decide⟩) (fun hf => ?_) (fun hf => ?_)
        · refine zk_iload hx hb dX1_together_92 (lv_at hl 5 rfl) ?_
          refine zk_iloadn hx hb dX1_together_94 rfl (lv_at hl 1 rfl) ?_
          refine zk_icmp_ne (tgt := 102) hx hb dX1_together_95 (by decide) hf (fun h => h) (fun hf => ?_) (fun hf => ?_)
          · refine lv_aload_n hx hb dX1_together_102 rfl (lv_at hl 0 rfl) ?_
            refine zm_rget hx hb hts hown hK hP 18 (by decide) q967 rfl dX1_together_103 ?_
            refine zk_iload hx hb dX1_together_106 (lv_at hl 5 rfl) ?_
            refine zk_iald hx hb hK hP 9 0 rfl rfl (N := 6) ⟨by decide, by decide⟩ hf dX1_together_108 (fun hf => ?_)
            exact hJ109 _ _ _ _ H locs ls hf (lv_sub hl [0, 1, 2, 3, 5] rfl) hP hS
          · refine zk_iconst hx hb dX1_together_98 ?_
            refine lv_goto (tgt := 109) hx hb dX1_together_99 (by decide) ?_
            exact hJ109 _ _ _ _ H locs ls hf (lv_sub hl [0, 1, 2, 3, 5] rfl) hP hS
        · refine zk_ldc hx hb 99999 hown (hts _ q1253) rfl dX1_together_87 ?_
          refine lv_goto (tgt := 109) hx hb dX1_together_89 (by decide) ?_
          exact hJ109 _ _ _ _ H locs ls hf (lv_sub hl [0, 1, 2, 3, 5] rfl) hP hS
      refine zk_iload hx hb dX1_together_39 (lv_at hl 5 rfl) ?_
      refine lv_aload_n hx hb dX1_together_41 rfl (lv_at hl 0 rfl) ?_
      refine zm_rget hx hb hts hown hK hP 1 (by decide) q950 rfl dX1_together_42 ?_
      refine zk_icmp_ge (tgt := 118) hx hb dX1_together_45 (by decide) hf (fun h => h) (fun hf => ?_) (fun hf => ?_)
      · obtain rfl := zk_so hf
        exact hJ118 _ _ _ H locs ls hc39 (lv_sub hl [3, 4] rfl) hP hS
      · refine lv_aload_n hx hb dX1_together_48 rfl (lv_at hl 0 rfl) ?_
        refine zm_rget hx hb hts hown hK hP 18 (by decide) q967 rfl dX1_together_49 ?_
        refine zk_iload hx hb dX1_together_52 (lv_at hl 5 rfl) ?_
        refine zk_iload hx hb dX1_together_54 (lv_at hl 5 rfl) ?_
        refine zk_iloadn hx hb dX1_together_56 rfl (lv_at hl 1 rfl) ?_
        refine zk_icmp_ne (tgt := 64) hx hb dX1_together_57 (by decide) hf (fun h => h) (fun hf => ?_) (fun hf => ?_)
        · refine lv_aload_n hx hb dX1_together_64 rfl (lv_at hl 0 rfl) ?_
          refine zk_iloadn hx hb dX1_together_65 rfl (lv_at hl 1 rfl) ?_
          refine zk_iloadn hx hb dX1_together_66 rfl (lv_at hl 3 rfl) ?_
          refine zk_iload hx hb dX1_together_67 (lv_at hl 5 rfl) ?_
          obtain ⟨v3, hq, hf⟩ := zk_bs hf
          refine zk_callVR (As := [zk_I x1, zk_I x3, zk_I x5]) (rest := [zk_I x5, .ref (a 18)]) ⟨hx, hb, hml, hown, hts⟩ (zw_X1_shamed l N x1 x3 x5 s0 _ hq) (cwV 3 hts (lw_V q1258 q1260 qs67 q88 q1261) rfl rfl rfl (by decide +kernel) ⟨Nat.le_of_ble_eq_true rfl, Nat.le_of_ble_eq_true rfl⟩) hKX hP hS (va_recv hK hP (ci := 1) (q0 := 0) rfl rfl) rfl hl.1 rfl (Nat.le_of_ble_eq_true rfl) dX1_together_69 ⟨Nat.le_of_ble_eq_true rfl, Nat.le_of_ble_eq_true rfl⟩ (fun H locs hP hS => ?_)
          exact hJ72 _ _ _ _ _ H locs ls hf (lv_sub hl [0, 1, 2, 3, 4, 5] rfl) hP hS
        · refine zk_iloadn hx hb dX1_together_60 rfl (lv_at hl 2 rfl) ?_
          refine lv_goto (tgt := 72) hx hb dX1_together_61 (by decide) ?_
          exact hJ72 _ _ _ _ _ H locs ls hf (lv_sub hl [0, 1, 2, 3, 4, 5] rfl) hP hS
  refine lv_aload_n hx hb dX1_together_0 rfl (lv_at hl 0 rfl) ?_
  refine zm_rget hx hb hts hown hK hP 2 (by decide) q951 rfl dX1_together_1 ?_
  refine zk_iloadn hx hb dX1_together_4 rfl (lv_at hl 1 rfl) ?_
  refine zk_iald hx hb hK hP 2 0 rfl rfl (N := 6) ⟨by decide, by decide⟩ hf dX1_together_5 (fun hf => ?_)
  refine lv_aload_n hx hb dX1_together_6 rfl (lv_at hl 0 rfl) ?_
  refine zm_rget hx hb hts hown hK hP 0 (by decide) q949 rfl dX1_together_7 ?_
  refine zk_bipush hx hb dX1_together_10 (by decide) ?_
  refine zk_iloadn hx hb dX1_together_12 rfl (lv_at hl 1 rfl) ?_
  refine zk_iadd hx hb dX1_together_13 ?_
  refine zk_iald hx hb hK hP 1 0 rfl rfl (N := 3305) ⟨by decide, by decide⟩ hf dX1_together_14 (fun hf => ?_)
  refine zk_iloadn hx hb dX1_together_15 rfl (lv_at hl 2 rfl) ?_
  refine zk_iadd hx hb dX1_together_16 ?_
  refine lv_aload_n hx hb dX1_together_17 rfl (lv_at hl 0 rfl) ?_
  refine zm_rget hx hb hts hown hK hP 0 (by decide) q949 rfl dX1_together_18 ?_
  refine zk_iconst hx hb dX1_together_21 ?_
  refine zk_iald hx hb hK hP 1 0 rfl rfl (N := 3305) ⟨by decide, by decide⟩ hf dX1_together_22 (fun hf => ?_)
  refine lv_aload_n hx hb dX1_together_23 rfl (lv_at hl 0 rfl) ?_
  refine zk_iconst hx hb dX1_together_24 ?_
  refine zk_iloadn hx hb dX1_together_25 rfl (lv_at hl 1 rfl) ?_
  obtain ⟨v1, hq, hf⟩ := zk_bs hf
  refine zk_callVR (As := [zk_I 0, zk_I p1]) (rest := [zk_I (σ 0 1), zk_I (σ 0 (9 + p1) + p2), zk_I (σ 2 p1)]) ⟨hx, hb, hml, hown, hts⟩ (zw_X1_farOf l 0 p1 σ _ hq) (cwV 2 hts (lw_V q1139 q1141 qs55 q88 q1142) rfl rfl rfl (by decide +kernel) ⟨Nat.le_of_ble_eq_true rfl, Nat.le_of_ble_eq_true rfl⟩) hKX hP hS (va_recv hK hP (ci := 1) (q0 := 0) rfl rfl) rfl hl.1 rfl (Nat.le_of_ble_eq_true rfl) dX1_together_26 ⟨Nat.le_of_ble_eq_true rfl, Nat.le_of_ble_eq_true rfl⟩ (fun H locs hP hS => ?_)
  obtain ⟨v2, hq, hf⟩ := zk_bs hf
  refine zk_callSS (As := [zk_I (σ 2 p1), zk_I (σ 0 (9 + p1) + p2), zk_I (σ 0 1), zk_I v1]) (rest := []) ⟨hx, hb, hml, hown, hts⟩ (zw_X1_daresBy l (σ 2 p1) (σ 0 (9 + p1) + p2) (σ 0 1) v1 _ hq) (va_cwS 4 hts (lw_S q1146 q1147 q88 q1148) rfl rfl rfl (by decide +kernel) ⟨Nat.le_of_ble_eq_true rfl, Nat.le_of_ble_eq_true rfl⟩) hP hS rfl hl.1 rfl (Nat.le_of_ble_eq_true rfl) dX1_together_29 ⟨Nat.le_of_ble_eq_true rfl, Nat.le_of_ble_eq_true rfl⟩ (fun H locs hP hS => ?_)
  refine lv_istore_n (lv' := [(3, zk_I v2), (0, .ref o), (1, zk_I p1), (2, zk_I p2)]) hx hb dX1_together_32 rfl hl (by decide) rfl (fun ls hl => ?_)
  refine zk_iloadn hx hb dX1_together_33 rfl (lv_at hl 3 rfl) ?_
  refine lv_istore (lv' := [(4, zk_I p2), (3, zk_I v2), (0, .ref o), (1, zk_I p1), (2, zk_I p2)]) hx hb dX1_together_34 hl (by decide) rfl (fun ls hl => ?_)
  refine zk_iconst hx hb dX1_together_36 ?_
  refine lv_istore (lv' := [(5, zk_I 0), (4, zk_I p2), (3, zk_I v2), (0, .ref o), (1, zk_I p1), (2, zk_I p2)]) hx hb dX1_together_37 hl (by decide) rfl (fun ls hl => ?_)
  exact hL39 N _ _ _ _ _ _ H locs ls hf (lv_sub hl [3, 4, 5, 2, 1, 0] rfl) hP hS
abbrev zw_X1_cheap_rm : Room := { frames := 6, cells := 0, slots := 0, locals := 150 }
abbrev zw_X1_cheap_vs (o : Nat) (p1 p2 : Int) : List Value := [.ref o, zk_I p1, zk_I p2]
set_option maxHeartbeats 4000000 in
set_option maxRecDepth 100000 in
theorem zw_X1_cheap (l : Launch) {D : va_G} {o : Nat} {a : Nat → Nat} {dA : Nat → ClassId} {A : Nat → Prop} (hD : ∀ τ, va_D A (zm_P o a dA τ)) (N : Nat) (p1 p2 : Int) (σ : ZS) (r : Int) (σ' : ZS) (hf : zm_cheap N p1 p2 σ = some (r, σ')) : zk_MW l yX1_cheap (ws_ yX1_cheap cX1_cheap 7 (Option.some Jvm.ClassFile.FieldType.int)) zw_X1_cheap_rm D zk_cl (zk_ty dA) A (zw_X1_cheap_vs o p1 p2) (zm_P o a dA σ) (zm_P o a dA σ') (some (zk_I r)) := by
  refine zk_startW (by decide +kernel) (Nat.le_of_ble_eq_true rfl) (fun p e s m below meth c H locs ls hx hb hr hlk hml hown hts hKX hP hS hl => ?_)
  have hl : lv_has ls 7 [(0, .ref o), (1, zk_I p1), (2, zk_I p2)] := hl
  have hK := hKX.1
  have hown : s.vm.findClass RX1 = some m.cls := hown
  have hf : zm_cheap N p1 p2 σ = some (r, σ') := hf
  have hJ151 : ∀ (x3 : Int) (s0 : ZS) (H : Heap) (locs : List Loc) (ls : Array Slot), zm_cheap_j151 N x3 s0 = some (r, σ') → lv_has ls 7 [(3, zk_I x3)] → va_P D zk_cl (zm_P o a dA s0) H → va_S A s.heap H locs → W p l e zw_X1_cheap_rm s m (zw_X1_cheap_vs o p1 p2).toArray below meth c H locs 0 0 (MQ below (zk_Q (some (zk_I r)) (fun t => va_P D zk_cl (zm_P o a dA σ') t.heap) A) (zw_X1_cheap_vs o p1 p2).toArray s 0 0 A) (F0 m 151 ls []) := by
    intro x3 s0 H locs ls hf hl hP hS
    refine zk_iloadn hx hb dX1_cheap_151 rfl (lv_at hl 0 rfl) ?_
    exact zk_iret hx hb hr hlk (zk_p1 hf) (zk_pB hf hP) hS dX1_cheap_152
  have hL117 : ∀ (n : Nat) (x2 x3 x4 : Int) (s0 : ZS) (H : Heap) (locs : List Loc) (ls : Array Slot), zk_b (zk_loop (α := Int × ZS) (β := ZS) n (fun a => zm_cheap_b117 N x2 x3 a.1 a.2) (x4, s0)) (fun e => zm_cheap_j151 N x3 e) = some (r, σ') → lv_has ls 7 [(0, .ref o), (2, zk_I x2), (3, zk_I x3), (4, zk_I x4)] → va_P D zk_cl (zm_P o a dA s0) H → va_S A s.heap H locs → W p l e zw_X1_cheap_rm s m (zw_X1_cheap_vs o p1 p2).toArray below meth c H locs 0 0 (MQ below (zk_Q (some (zk_I r)) (fun t => va_P D zk_cl (zm_P o a dA σ') t.heap) A) (zw_X1_cheap_vs o p1 p2).toArray s 0 0 A) (F0 m 117 ls []) := by
    intro n
    induction n with
    | zero => intro x2 x3 x4 s0 H locs ls hf; exact (zk_l0 hf).elim
    | succ n ih117 =>
      intro x2 x3 x4 s0 H locs ls hf hl hP hS
      obtain ⟨c117, hf, hc117⟩ := zk_ls hf
      refine zk_iload hx hb dX1_cheap_117 (lv_at hl 3 rfl) ?_
      refine lv_aload_n hx hb dX1_cheap_119 rfl (lv_at hl 0 rfl) ?_
      refine zm_rget hx hb hts hown hK hP 1 (by decide) q950 rfl dX1_cheap_120 ?_
      refine zk_icmp_ge (tgt := 151) hx hb dX1_cheap_123 (by decide) hf (fun h => h) (fun hf => ?_) (fun hf => ?_)
      · obtain rfl := zk_so hf
        exact hJ151 _ _ H locs ls hc117 (lv_sub hl [2] rfl) hP hS
      · refine lv_aload_n hx hb dX1_cheap_126 rfl (lv_at hl 0 rfl) ?_
        refine zm_rget hx hb hts hown hK hP 4 (by decide) q953 rfl dX1_cheap_127 ?_
        refine zk_bipush hx hb dX1_cheap_130 (by decide) ?_
        refine zk_iloadn hx hb dX1_cheap_132 rfl (lv_at hl 1 rfl) ?_
        refine zk_imul hx hb dX1_cheap_133 ?_
        refine zk_iload hx hb dX1_cheap_134 (lv_at hl 3 rfl) ?_
        refine zk_iadd hx hb dX1_cheap_136 ?_
        refine lv_aload_n hx hb dX1_cheap_137 rfl (lv_at hl 0 rfl) ?_
        refine zm_rget hx hb hts hown hK hP 19 (by decide) q968 rfl dX1_cheap_138 ?_
        refine zk_iload hx hb dX1_cheap_141 (lv_at hl 3 rfl) ?_
        refine zk_iald hx hb hK hP 10 0 rfl rfl (N := 6) ⟨by decide, by decide⟩ hf dX1_cheap_143 (fun hf => ?_)
        refine zk_iastN hx hb hK hP hD hS 4 0 4 rfl rfl (N := 240) ⟨by decide, by decide⟩ (zm_t4 _ _ _) hf dX1_cheap_144 (fun s10 H locs hf hP hS => ?_)
        refine zk_iincN (lv' := fun x4_11 => [(4, zk_I x4_11), (0, .ref o), (2, zk_I x2), (3, zk_I x3)]) hx hb dX1_cheap_145 hl (k := 3) rfl (by decide) (fun _ => rfl) hf (fun x4_11 hf ls hl => ?_)
        refine lv_goto (tgt := 117) hx hb dX1_cheap_148 (by decide) ?_
        obtain rfl := zk_so hf
        exact ih117 _ _ _ _ H locs ls hc117 (lv_sub hl [1, 2, 3, 0] rfl) hP hS
  have hJ96 : ∀ (x2 x3 : Int) (s0 : ZS) (H : Heap) (locs : List Loc) (ls : Array Slot), zm_cheap_j96 N x2 x3 s0 = some (r, σ') → lv_has ls 7 [(0, .ref o), (2, zk_I x2), (3, zk_I x3)] → va_P D zk_cl (zm_P o a dA s0) H → va_S A s.heap H locs → W p l e zw_X1_cheap_rm s m (zw_X1_cheap_vs o p1 p2).toArray below meth c H locs 0 0 (MQ below (zk_Q (some (zk_I r)) (fun t => va_P D zk_cl (zm_P o a dA σ') t.heap) A) (zw_X1_cheap_vs o p1 p2).toArray s 0 0 A) (F0 m 96 ls []) := by
    intro x2 x3 s0 H locs ls hf hl hP hS
    refine zk_iloadn hx hb dX1_cheap_96 rfl (lv_at hl 2 rfl) ?_
    refine zk_ldc hx hb 99999 hown (hts _ q1253) rfl dX1_cheap_97 ?_
    refine zk_icmp_ne (tgt := 105) hx hb dX1_cheap_99 (by decide) hf (fun h => ⟨h, by decide⟩) (fun hf => ?_) (fun hf => ?_)
    · refine lv_aload_n hx hb dX1_cheap_105 rfl (lv_at hl 0 rfl) ?_
      refine zk_iloadn hx hb dX1_cheap_106 rfl (lv_at hl 1 rfl) ?_
      refine lv_aload_n hx hb dX1_cheap_107 rfl (lv_at hl 0 rfl) ?_
      refine zm_rget hx hb hts hown hK hP 1 (by decide) q950 rfl dX1_cheap_108 ?_
      obtain ⟨v8, s9, hq, hf⟩ := zk_b2s hf
      refine zk_callVW (As := [zk_I x2, zk_I (s0 1 0)]) (rest := []) ⟨hx, hb, hml, hown, hts⟩ (zw_X1_makeRow l hD N x2 (s0 1 0) s0 _ _ hq) (cwV 2 hts (lw_V q1034 q1036 qs41 q88 q1037) rfl rfl rfl (by decide +kernel) ⟨Nat.le_of_ble_eq_true rfl, Nat.le_of_ble_eq_true rfl⟩) hKX hP hS (va_recv hK hP (ci := 1) (q0 := 0) rfl rfl) rfl hl.1 rfl (Nat.le_of_ble_eq_true rfl) dX1_cheap_111 ⟨Nat.le_of_ble_eq_true rfl, Nat.le_of_ble_eq_true rfl⟩ (fun H locs hP hS => ?_)
      refine zk_iconst hx hb dX1_cheap_114 ?_
      refine lv_istore (lv' := [(4, zk_I 0), (0, .ref o), (2, zk_I x2), (3, zk_I x3)]) hx hb dX1_cheap_115 hl (by decide) rfl (fun ls hl => ?_)
      exact hL117 N _ _ _ _ H locs ls hf (lv_sub hl [1, 2, 3, 0] rfl) hP hS
    · refine zk_bipush hx hb dX1_cheap_102 (by decide) ?_
      exact zk_iret hx hb hr hlk (zk_p1 hf) (zk_pB hf hP) hS dX1_cheap_104
  have hL23 : ∀ (n : Nat) (x1 x2 x3 x4 : Int) (s0 : ZS) (H : Heap) (locs : List Loc) (ls : Array Slot), zk_b (zk_loop (α := Int × Int × ZS) (β := Int × ZS) n (fun a => zm_cheap_b23 N x1 x2 a.1 a.2.1 a.2.2) (x3, x4, s0)) (fun e => zm_cheap_j96 N x2 e.1 e.2) = some (r, σ') → lv_has ls 7 [(0, .ref o), (1, zk_I x1), (2, zk_I x2), (3, zk_I x3), (4, zk_I x4)] → va_P D zk_cl (zm_P o a dA s0) H → va_S A s.heap H locs → W p l e zw_X1_cheap_rm s m (zw_X1_cheap_vs o p1 p2).toArray below meth c H locs 0 0 (MQ below (zk_Q (some (zk_I r)) (fun t => va_P D zk_cl (zm_P o a dA σ') t.heap) A) (zw_X1_cheap_vs o p1 p2).toArray s 0 0 A) (F0 m 23 ls []) := by
    intro n
    induction n with
    | zero => intro x1 x2 x3 x4 s0 H locs ls hf; exact (zk_l0 hf).elim
    | succ n ih23 =>
      intro x1 x2 x3 x4 s0 H locs ls hf hl hP hS
      obtain ⟨c23, hf, hc23⟩ := zk_ls hf
      have hJ90 : ∀ (x3 x4 : Int) (s0 : ZS) (H : Heap) (locs : List Loc) (ls : Array Slot), zm_cheap_j90 N x1 x2 x3 x4 s0 = some c23 → lv_has ls 7 [(0, .ref o), (1, zk_I x1), (2, zk_I x2), (3, zk_I x3), (4, zk_I x4)] → va_P D zk_cl (zm_P o a dA s0) H → va_S A s.heap H locs → W p l e zw_X1_cheap_rm s m (zw_X1_cheap_vs o p1 p2).toArray below meth c H locs 0 0 (MQ below (zk_Q (some (zk_I r)) (fun t => va_P D zk_cl (zm_P o a dA σ') t.heap) A) (zw_X1_cheap_vs o p1 p2).toArray s 0 0 A) (F0 m 90 ls []) := by
        intro x3 x4 s0 H locs ls hf hl hP hS
        refine zk_iincN (lv' := fun x4_5 => [(4, zk_I x4_5), (0, .ref o), (1, zk_I x1), (2, zk_I x2), (3, zk_I x3)]) hx hb dX1_cheap_90 hl (k := 4) rfl (by decide) (fun _ => rfl) hf (fun x4_5 hf ls hl => ?_)
        refine lv_goto (tgt := 23) hx hb dX1_cheap_93 (by decide) ?_
        obtain rfl := zk_so hf
        exact ih23 _ _ _ _ _ H locs ls hc23 (lv_sub hl [1, 2, 3, 4, 0] rfl) hP hS
      have hL61 : ∀ (n : Nat) (x3 x4 x6 : Int) (s0 : ZS) (H : Heap) (locs : List Loc) (ls : Array Slot), zk_b (zk_loop (α := Int × ZS) (β := ZS) n (fun a => zm_cheap_b61 N x1 x2 x3 x4 a.1 a.2) (x6, s0)) (fun e => zm_cheap_j90 N x1 x2 x3 x4 e) = some c23 → lv_has ls 7 [(0, .ref o), (1, zk_I x1), (2, zk_I x2), (3, zk_I x3), (4, zk_I x4), (6, zk_I x6)] → va_P D zk_cl (zm_P o a dA s0) H → va_S A s.heap H locs → W p l e zw_X1_cheap_rm s m (zw_X1_cheap_vs o p1 p2).toArray below meth c H locs 0 0 (MQ below (zk_Q (some (zk_I r)) (fun t => va_P D zk_cl (zm_P o a dA σ') t.heap) A) (zw_X1_cheap_vs o p1 p2).toArray s 0 0 A) (F0 m 61 ls []) := by
        intro n
        induction n with
        | zero => intro x3 x4 x6 s0 H locs ls hf; exact (zk_l0 hf).elim
        | succ n ih61 =>
          intro x3 x4 x6 s0 H locs ls hf hl hP hS
          obtain ⟨c61, hf, hc61⟩ := zk_ls hf
          refine zk_iload hx hb dX1_cheap_61 (lv_at hl 5 rfl) ?_
          refine lv_aload_n hx hb dX1_cheap_63 rfl (lv_at hl 0 rfl) ?_
          refine zm_rget hx hb hts hown hK hP 1 (by decide) q950 rfl dX1_cheap_64 ?_
          refine zk_icmp_ge (tgt := 90) hx hb dX1_cheap_67 (by decide) hf (fun h => h) (fun hf => ?_) (fun hf => ?_)
          · obtain rfl := zk_so hf
            exact hJ90 _ _ _ H locs ls hc61 (lv_sub hl [0, 1, 2, 3, 4] rfl) hP hS
          · refine lv_aload_n hx hb dX1_cheap_70 rfl (lv_at hl 0 rfl) ?_
            refine zm_rget hx hb hts hown hK hP 19 (by decide) q968 rfl dX1_cheap_71 ?_
            refine zk_iload hx hb dX1_cheap_74 (lv_at hl 5 rfl) ?_
            refine lv_aload_n hx hb dX1_cheap_76 rfl (lv_at hl 0 rfl) ?_
            refine zm_rget hx hb hts hown hK hP 18 (by decide) q967 rfl dX1_cheap_77 ?_
            refine zk_iload hx hb dX1_cheap_80 (lv_at hl 5 rfl) ?_
            refine zk_iald hx hb hK hP 9 0 rfl rfl (N := 6) ⟨by decide, by decide⟩ hf dX1_cheap_82 (fun hf => ?_)
            refine zk_iastN hx hb hK hP hD hS 10 0 19 rfl rfl (N := 6) ⟨by decide, by decide⟩ (zm_t19 _ _ _) hf dX1_cheap_83 (fun s6 H locs hf hP hS => ?_)
            refine zk_iincN (lv' := fun x6_7 => [(6, zk_I x6_7), (0, .ref o), (1, zk_I x1), (2, zk_I x2), (3, zk_I x3), (4, zk_I x4)]) hx hb dX1_cheap_84 hl (k := 5) rfl (by decide) (fun _ => rfl) hf (fun x6_7 hf ls hl => ?_)
            refine lv_goto (tgt := 61) hx hb dX1_cheap_87 (by decide) ?_
            obtain rfl := zk_so hf
            exact ih61 _ _ _ _ H locs ls hc61 (lv_sub hl [1, 2, 3, 4, 5, 0] rfl) hP hS
      refine lv_aload_n hx hb dX1_cheap_23 rfl (lv_at hl 0 rfl) ?_
      refine zm_rget hx hb hts hown hK hP 0 (by decide) q949 rfl dX1_cheap_24 ?_
      refine zk_bipush hx hb dX1_cheap_27 (by decide) ?_
      refine zk_iloadn hx hb dX1_cheap_29 rfl (lv_at hl 1 rfl) ?_
      refine zk_iadd hx hb dX1_cheap_30 ?_
      refine zk_iald hx hb hK hP 1 0 rfl rfl (N := 3305) ⟨by decide, by decide⟩ hf dX1_cheap_31 (fun hf => ?_)
      refine zk_iload hx hb dX1_cheap_32 (lv_at hl 4 rfl) ?_
      refine zk_iadd hx hb dX1_cheap_34 ?_
      refine zk_bipush hx hb dX1_cheap_35 (by decide) ?_
      refine zk_icmp_ge (tgt := 96) hx hb dX1_cheap_37 (by decide) hf (fun h => ⟨h, by decide⟩) (fun hf => ?_) (fun hf => ?_)
      · obtain rfl := zk_so hf
        exact hJ96 _ _ _ H locs ls hc23 (lv_sub hl [0, 2, 3] rfl) hP hS
      · refine lv_aload_n hx hb dX1_cheap_40 rfl (lv_at hl 0 rfl) ?_
        refine zk_iloadn hx hb dX1_cheap_41 rfl (lv_at hl 1 rfl) ?_
        refine zk_iload hx hb dX1_cheap_42 (lv_at hl 4 rfl) ?_
        obtain ⟨v3, s4, hq, hf⟩ := zk_b2s hf
        refine zk_callVW (As := [zk_I x1, zk_I x4]) (rest := []) ⟨hx, hb, hml, hown, hts⟩ (zw_X1_together l hD N x1 x4 s0 _ _ hq) (cwV 2 hts (lw_V q1254 q1256 qs66 q88 q1257) rfl rfl rfl (by decide +kernel) ⟨Nat.le_of_ble_eq_true rfl, Nat.le_of_ble_eq_true rfl⟩) hKX hP hS (va_recv hK hP (ci := 1) (q0 := 0) rfl rfl) rfl hl.1 rfl (Nat.le_of_ble_eq_true rfl) dX1_cheap_44 ⟨Nat.le_of_ble_eq_true rfl, Nat.le_of_ble_eq_true rfl⟩ (fun H locs hP hS => ?_)
        refine lv_istore (lv' := [(5, zk_I v3), (0, .ref o), (1, zk_I x1), (2, zk_I x2), (3, zk_I x3), (4, zk_I x4)]) hx hb dX1_cheap_47 hl (by decide) rfl (fun ls hl => ?_)
        refine zk_iload hx hb dX1_cheap_49 (lv_at hl 0 rfl) ?_
        refine zk_iloadn hx hb dX1_cheap_51 rfl (lv_at hl 4 rfl) ?_
        refine zk_icmp_ge (tgt := 90) hx hb dX1_cheap_52 (by decide) hf (fun h => h) (fun hf => ?_) (fun hf => ?_)
        · exact hJ90 _ _ _ H locs ls hf (lv_sub hl [1, 2, 3, 4, 5] rfl) hP hS
        · refine zk_iload hx hb dX1_cheap_55 (lv_at hl 0 rfl) ?_
          refine lv_istore_n (lv' := [(3, zk_I v3), (5, zk_I v3), (0, .ref o), (1, zk_I x1), (2, zk_I x2), (4, zk_I x4)]) hx hb dX1_cheap_57 rfl hl (by decide) rfl (fun ls hl => ?_)
          refine zk_iconst hx hb dX1_cheap_58 ?_
          refine lv_istore (lv' := [(6, zk_I 0), (3, zk_I v3), (5, zk_I v3), (0, .ref o), (1, zk_I x1), (2, zk_I x2), (4, zk_I x4)]) hx hb dX1_cheap_59 hl (by decide) rfl (fun ls hl => ?_)
          exact hL61 N _ _ _ _ H locs ls hf (lv_sub hl [3, 4, 5, 1, 6, 0] rfl) hP hS
  refine lv_aload_n hx hb dX1_cheap_0 rfl (lv_at hl 0 rfl) ?_
  refine zk_iloadn hx hb dX1_cheap_1 rfl (lv_at hl 1 rfl) ?_
  obtain ⟨v1, hq, hf⟩ := zk_bs hf
  refine zk_callVR (As := [zk_I p1]) (rest := []) ⟨hx, hb, hml, hown, hts⟩ (zw_X1_isOne l p1 σ _ hq) (cwV 1 hts (lw_V q1127 q1129 qs52 q88 q1130) rfl rfl rfl (by decide +kernel) ⟨Nat.le_of_ble_eq_true rfl, Nat.le_of_ble_eq_true rfl⟩) hKX hP hS (va_recv hK hP (ci := 1) (q0 := 0) rfl rfl) rfl hl.1 rfl (Nat.le_of_ble_eq_true rfl) dX1_cheap_2 ⟨Nat.le_of_ble_eq_true rfl, Nat.le_of_ble_eq_true rfl⟩ (fun H locs hP hS => ?_)
  refine zk_if_eq (tgt := 15) hx hb dX1_cheap_5 (by decide) hf (fun h => h) (fun hf => ?_) (fun hf => ?_)
  · refine zk_iconst hx hb dX1_cheap_15 ?_
    exact zk_iret hx hb hr hlk (zk_p1 hf) (zk_pB hf hP) hS dX1_cheap_16
  · refine zk_iloadn hx hb dX1_cheap_8 rfl (lv_at hl 2 rfl) ?_
    obtain ⟨v2, hq, hf⟩ := zk_bs hf
    refine zk_callSS (As := [zk_I p2]) (rest := []) ⟨hx, hb, hml, hown, hts⟩ (zw_X1_isRow l p2 _ hq) (va_cwS 1 hts (lw_S q1023 q1024 q88 q1025) rfl rfl rfl (by decide +kernel) ⟨Nat.le_of_ble_eq_true rfl, Nat.le_of_ble_eq_true rfl⟩) hP hS rfl hl.1 rfl (Nat.le_of_ble_eq_true rfl) dX1_cheap_9 ⟨Nat.le_of_ble_eq_true rfl, Nat.le_of_ble_eq_true rfl⟩ (fun H locs hP hS => ?_)
    refine zk_if_ne (tgt := 17) hx hb dX1_cheap_12 (by decide) hf (fun h => h) (fun hf => ?_) (fun hf => ?_)
    · refine zk_ldc hx hb 99999 hown (hts _ q1253) rfl dX1_cheap_17 ?_
      refine lv_istore_n (lv' := [(3, zk_I 99999), (0, .ref o), (1, zk_I p1), (2, zk_I p2)]) hx hb dX1_cheap_19 rfl hl (by decide) rfl (fun ls hl => ?_)
      refine zk_iconst hx hb dX1_cheap_20 ?_
      refine lv_istore (lv' := [(4, zk_I 0), (3, zk_I 99999), (0, .ref o), (1, zk_I p1), (2, zk_I p2)]) hx hb dX1_cheap_21 hl (by decide) rfl (fun ls hl => ?_)
      exact hL23 N _ _ _ _ _ H locs ls hf (lv_sub hl [2, 3, 4, 1, 0] rfl) hP hS
    · refine zk_iconst hx hb dX1_cheap_15 ?_
      exact zk_iret hx hb hr hlk (zk_p1 hf) (zk_pB hf hP) hS dX1_cheap_16
abbrev zw_X1_noRow_rm : Room := { frames := 3, cells := 0, slots := 0, locals := 78 }
abbrev zw_X1_noRow_vs (o : Nat) (p1 : Int) : List Value := [.ref o, zk_I p1]
set_option maxHeartbeats 4000000 in
set_option maxRecDepth 100000 in
theorem zw_X1_noRow (l : Launch) {D : va_G} {o : Nat} {a : Nat → Nat} {dA : Nat → ClassId} {A : Nat → Prop} (hD : ∀ τ, va_D A (zm_P o a dA τ)) (N : Nat) (p1 : Int) (σ : ZS) (r : Int) (σ' : ZS) (hf : zm_noRow N p1 σ = some (r, σ')) : zk_MW l yX1_noRow (ws_ yX1_noRow cX1_noRow 4 (Option.some Jvm.ClassFile.FieldType.int)) zw_X1_noRow_rm D zk_cl (zk_ty dA) A (zw_X1_noRow_vs o p1) (zm_P o a dA σ) (zm_P o a dA σ') (some (zk_I r)) := by
  refine zk_startW (by decide +kernel) (Nat.le_of_ble_eq_true rfl) (fun p e s m below meth c H locs ls hx hb hr hlk hml hown hts hKX hP hS hl => ?_)
  have hl : lv_has ls 4 [(0, .ref o), (1, zk_I p1)] := hl
  have hK := hKX.1
  have hown : s.vm.findClass RX1 = some m.cls := hown
  have hf : zm_noRow N p1 σ = some (r, σ') := hf
  have hJ86 : ∀ (x2 : Int) (s0 : ZS) (H : Heap) (locs : List Loc) (ls : Array Slot), zm_noRow_j86 N x2 s0 = some (r, σ') → lv_has ls 4 [(0, .ref o), (2, zk_I x2)] → va_P D zk_cl (zm_P o a dA s0) H → va_S A s.heap H locs → W p l e zw_X1_noRow_rm s m (zw_X1_noRow_vs o p1).toArray below meth c H locs 0 0 (MQ below (zk_Q (some (zk_I r)) (fun t => va_P D zk_cl (zm_P o a dA σ') t.heap) A) (zw_X1_noRow_vs o p1).toArray s 0 0 A) (F0 m 86 ls []) := by
    intro x2 s0 H locs ls hf hl hP hS
    refine zk_iloadn hx hb dX1_noRow_86 rfl (lv_at hl 1 rfl) ?_
    refine zk_if_eq (tgt := 94) hx hb dX1_noRow_87 (by decide) hf (fun h => h) (fun hf => ?_) (fun hf => ?_)
    · refine lv_aload_n hx hb dX1_noRow_94 rfl (lv_at hl 0 rfl) ?_
      refine zk_iconst hx hb dX1_noRow_95 ?_
      obtain ⟨v8, s9, hq, hf⟩ := zk_b2s hf
      refine zk_callVW (As := [zk_I 3]) (rest := []) ⟨hx, hb, hml, hown, hts⟩ (zw_X1_find l hD 3 s0 _ _ hq) (cwV 1 hts (lw_V q1030 q1032 qs40 q88 q1033) rfl rfl rfl (by decide +kernel) ⟨Nat.le_of_ble_eq_true rfl, Nat.le_of_ble_eq_true rfl⟩) hKX hP hS (va_recv hK hP (ci := 1) (q0 := 0) rfl rfl) rfl hl.1 rfl (Nat.le_of_ble_eq_true rfl) dX1_noRow_96 ⟨Nat.le_of_ble_eq_true rfl, Nat.le_of_ble_eq_true rfl⟩ (fun H locs hP hS => ?_)
      exact zk_iret hx hb hr hlk (zk_p1 hf) (zk_pB hf hP) hS dX1_noRow_99
    · refine zk_iconst hx hb dX1_noRow_90 ?_
      refine lv_goto (tgt := 99) hx hb dX1_noRow_91 (by decide) ?_
      exact zk_iret hx hb hr hlk (zk_p1 hf) (zk_pB hf hP) hS dX1_noRow_99
  have hL42 : ∀ (n : Nat) (x1 x2 x3 : Int) (s0 : ZS) (H : Heap) (locs : List Loc) (ls : Array Slot), zk_b (zk_loop (α := Int × Int) (β := Int) n (fun a => zm_noRow_b42 N x1 a.1 a.2 s0) (x2, x3)) (fun e => zm_noRow_j86 N e s0) = some (r, σ') → lv_has ls 4 [(0, .ref o), (1, zk_I x1), (2, zk_I x2), (3, zk_I x3)] → va_P D zk_cl (zm_P o a dA s0) H → va_S A s.heap H locs → W p l e zw_X1_noRow_rm s m (zw_X1_noRow_vs o p1).toArray below meth c H locs 0 0 (MQ below (zk_Q (some (zk_I r)) (fun t => va_P D zk_cl (zm_P o a dA σ') t.heap) A) (zw_X1_noRow_vs o p1).toArray s 0 0 A) (F0 m 42 ls []) := by
    intro n
    induction n with
    | zero => intro x1 x2 x3 s0 H locs ls hf; exact (zk_l0 hf).elim
    | succ n ih42 =>
      intro x1 x2 x3 s0 H locs ls hf hl hP hS
      obtain ⟨c42, hf, hc42⟩ := zk_ls hf
      have hJ79 : ∀ (x3 y0 : Int) (H : Heap) (locs : List Loc) (ls : Array Slot), zm_noRow_j79 N x1 x3 y0 s0 = some c42 → lv_has ls 4 [(0, .ref o), (1, zk_I x1), (3, zk_I x3)] → va_P D zk_cl (zm_P o a dA s0) H → va_S A s.heap H locs → W p l e zw_X1_noRow_rm s m (zw_X1_noRow_vs o p1).toArray below meth c H locs 0 0 (MQ below (zk_Q (some (zk_I r)) (fun t => va_P D zk_cl (zm_P o a dA σ') t.heap) A) (zw_X1_noRow_vs o p1).toArray s 0 0 A) (F0 m 79 ls [zk_I y0]) := by
        intro x3 y0 H locs ls hf hl hP hS
        refine lv_istore_n (lv' := [(2, zk_I y0), (0, .ref o), (1, zk_I x1), (3, zk_I x3)]) hx hb dX1_noRow_79 rfl hl (by decide) rfl (fun ls hl => ?_)
        refine zk_iincN (lv' := fun x3_7 => [(3, zk_I x3_7), (2, zk_I y0), (0, .ref o), (1, zk_I x1)]) hx hb dX1_noRow_80 hl (k := 3) rfl (by decide) (fun _ => rfl) hf (fun x3_7 hf ls hl => ?_)
        refine lv_goto (tgt := 42) hx hb dX1_noRow_83 (by decide) ?_
        obtain rfl := zk_so hf
        exact ih42 _ _ _ _ H locs ls hc42 (lv_sub hl [2, 3, 1, 0] rfl) hP hS
      have hJ78 : ∀ (x3 : Int) (H : Heap) (locs : List Loc) (ls : Array Slot), zm_noRow_j78 N x1 x3 s0 = some c42 → lv_has ls 4 [(0, .ref o), (1, zk_I x1), (3, zk_I x3)] → va_P D zk_cl (zm_P o a dA s0) H → va_S A s.heap H locs → W p l e zw_X1_noRow_rm s m (zw_X1_noRow_vs o p1).toArray below meth c H locs 0 0 (MQ below (zk_Q (some (zk_I r)) (fun t => va_P D zk_cl (zm_P o a dA σ') t.heap) A) (zw_X1_noRow_vs o p1).toArray s 0 0 A) (F0 m 78 ls []) := by
        intro x3 H locs ls hf hl hP hS
        refine zk_iconst hx hb dX1_noRow_78 ?_
        exact hJ79 _ _ H locs ls hf (lv_sub hl [0, 1, 2] rfl) hP hS
      refine zk_iloadn hx hb dX1_noRow_42 rfl (lv_at hl 3 rfl) ?_
      refine lv_aload_n hx hb dX1_noRow_43 rfl (lv_at hl 0 rfl) ?_
      refine zm_rget hx hb hts hown hK hP 3 (by decide) q952 rfl dX1_noRow_44 ?_
      refine zk_iloadn hx hb dX1_noRow_47 rfl (lv_at hl 1 rfl) ?_
      refine zk_iald hx hb hK hP 3 0 rfl rfl (N := 6) ⟨by decide, by decide⟩ hf dX1_noRow_48 (fun hf => ?_)
      refine zk_icmp_ge (tgt := 86) hx hb dX1_noRow_49 (by decide) hf (fun h => h) (fun hf => ?_) (fun hf => ?_)
      · obtain rfl := zk_so hf
        exact hJ86 _ _ H locs ls hc42 (lv_sub hl [0, 2] rfl) hP hS
      · refine zk_iloadn hx hb dX1_noRow_52 rfl (lv_at hl 2 rfl) ?_
        refine zk_if_eq (tgt := 78) hx hb dX1_noRow_53 (by decide) hf (fun h => h) (fun hf => ?_) (fun hf => ?_)
        · exact hJ78 _ H locs ls hf (lv_sub hl [0, 1, 3] rfl) hP hS
        · refine lv_aload_n hx hb dX1_noRow_56 rfl (lv_at hl 0 rfl) ?_
          refine lv_aload_n hx hb dX1_noRow_57 rfl (lv_at hl 0 rfl) ?_
          refine zm_rget hx hb hts hown hK hP 4 (by decide) q953 rfl dX1_noRow_58 ?_
          refine zk_bipush hx hb dX1_noRow_61 (by decide) ?_
          refine zk_iloadn hx hb dX1_noRow_63 rfl (lv_at hl 1 rfl) ?_
          refine zk_imul hx hb dX1_noRow_64 ?_
          refine zk_iloadn hx hb dX1_noRow_65 rfl (lv_at hl 3 rfl) ?_
          refine zk_iadd hx hb dX1_noRow_66 ?_
          refine zk_iald hx hb hK hP 4 0 rfl rfl (N := 240) ⟨by decide, by decide⟩ hf dX1_noRow_67 (fun hf => ?_)
          obtain ⟨v6, hq, hf⟩ := zk_bs hf
          refine zk_callVR (As := [zk_I (s0 4 (40 * x1 + x3))]) (rest := []) ⟨hx, hb, hml, hown, hts⟩ (zw_X1_isOne l (s0 4 (40 * x1 + x3)) s0 _ hq) (cwV 1 hts (lw_V q1127 q1129 qs52 q88 q1130) rfl rfl rfl (by decide +kernel) ⟨Nat.le_of_ble_eq_true rfl, Nat.le_of_ble_eq_true rfl⟩) hKX hP hS (va_recv hK hP (ci := 1) (q0 := 0) rfl rfl) rfl hl.1 rfl (Nat.le_of_ble_eq_true rfl) dX1_noRow_68 ⟨Nat.le_of_ble_eq_true rfl, Nat.le_of_ble_eq_true rfl⟩ (fun H locs hP hS => ?_)
          refine zk_if_eq (tgt := 78) hx hb dX1_noRow_71 (by decide) hf (fun h => h) (fun hf => ?_) (fun hf => ?_)
          · exact hJ78 _ H locs ls hf (lv_sub hl [0, 1, 3] rfl) hP hS
          · refine zk_iconst hx hb dX1_noRow_74 ?_
            refine lv_goto (tgt := 79) hx hb dX1_noRow_75 (by decide) ?_
            exact hJ79 _ _ H locs ls hf (lv_sub hl [0, 1, 3] rfl) hP hS
  refine lv_aload_n hx hb dX1_noRow_0 rfl (lv_at hl 0 rfl) ?_
  refine zm_rget hx hb hts hown hK hP 3 (by decide) q952 rfl dX1_noRow_1 ?_
  refine zk_iloadn hx hb dX1_noRow_4 rfl (lv_at hl 1 rfl) ?_
  refine zk_iald hx hb hK hP 3 0 rfl rfl (N := 6) ⟨by decide, by decide⟩ hf dX1_noRow_5 (fun hf => ?_)
  refine zk_if_ge (tgt := 15) hx hb dX1_noRow_6 (by decide) hf (fun h => h) (fun hf => ?_) (fun hf => ?_)
  · refine lv_aload_n hx hb dX1_noRow_15 rfl (lv_at hl 0 rfl) ?_
    refine zm_rget hx hb hts hown hK hP 3 (by decide) q952 rfl dX1_noRow_16 ?_
    refine zk_iloadn hx hb dX1_noRow_19 rfl (lv_at hl 1 rfl) ?_
    refine zk_iald hx hb hK hP 3 0 rfl rfl (N := 6) ⟨by decide, by decide⟩ hf dX1_noRow_20 (fun hf => ?_)
    refine zk_ri2l hx hb dX1_noRow_21 hf (fun hf => ?_)
    refine zk_lconst (v := 1) hx hb dX1_noRow_22 rfl ?_
    refine zk_ldc2 hx hb 10 hown (hts _ q1274) rfl dX1_noRow_23 ?_
    obtain ⟨v1, hq, hf⟩ := zk_bs hf
    refine zk_callSS (As := [zk_L (σ 3 p1), zk_L 1, zk_L 10]) (rest := []) ⟨hx, hb, hml, hown, hts⟩ (zw_X1_in l (σ 3 p1) 1 10 _ hq) (va_cwS 3 hts (lw_S q1027 q1028 q88 q1029) rfl rfl rfl (by decide +kernel) ⟨Nat.le_of_ble_eq_true rfl, Nat.le_of_ble_eq_true rfl⟩) hP hS rfl hl.1 rfl (Nat.le_of_ble_eq_true rfl) dX1_noRow_26 ⟨Nat.le_of_ble_eq_true rfl, Nat.le_of_ble_eq_true rfl⟩ (fun H locs hP hS => ?_)
    refine zk_if_ne (tgt := 38) hx hb dX1_noRow_29 (by decide) hf (fun h => h) (fun hf => ?_) (fun hf => ?_)
    · refine zk_iconst hx hb dX1_noRow_38 ?_
      refine lv_istore_n (lv' := [(2, zk_I 1), (0, .ref o), (1, zk_I p1)]) hx hb dX1_noRow_39 rfl hl (by decide) rfl (fun ls hl => ?_)
      refine zk_iconst hx hb dX1_noRow_40 ?_
      refine lv_istore_n (lv' := [(3, zk_I 0), (2, zk_I 1), (0, .ref o), (1, zk_I p1)]) hx hb dX1_noRow_41 rfl hl (by decide) rfl (fun ls hl => ?_)
      exact hL42 N _ _ _ _ H locs ls hf (lv_sub hl [2, 3, 1, 0] rfl) hP hS
    · refine lv_aload_n hx hb dX1_noRow_32 rfl (lv_at hl 0 rfl) ?_
      refine zk_iconst hx hb dX1_noRow_33 ?_
      obtain ⟨v2, s3, hq, hf⟩ := zk_b2s hf
      refine zk_callVW (As := [zk_I 5]) (rest := []) ⟨hx, hb, hml, hown, hts⟩ (zw_X1_find l hD 5 σ _ _ hq) (cwV 1 hts (lw_V q1030 q1032 qs40 q88 q1033) rfl rfl rfl (by decide +kernel) ⟨Nat.le_of_ble_eq_true rfl, Nat.le_of_ble_eq_true rfl⟩) hKX hP hS (va_recv hK hP (ci := 1) (q0 := 0) rfl rfl) rfl hl.1 rfl (Nat.le_of_ble_eq_true rfl) dX1_noRow_34 ⟨Nat.le_of_ble_eq_true rfl, Nat.le_of_ble_eq_true rfl⟩ (fun H locs hP hS => ?_)
      exact zk_iret hx hb hr hlk (zk_p1 hf) (zk_pB hf hP) hS dX1_noRow_37
  · refine lv_aload_n hx hb dX1_noRow_9 rfl (lv_at hl 0 rfl) ?_
    refine zk_iconst hx hb dX1_noRow_10 ?_
    obtain ⟨v4, s5, hq, hf⟩ := zk_b2s hf
    refine zk_callVW (As := [zk_I 1]) (rest := []) ⟨hx, hb, hml, hown, hts⟩ (zw_X1_find l hD 1 σ _ _ hq) (cwV 1 hts (lw_V q1030 q1032 qs40 q88 q1033) rfl rfl rfl (by decide +kernel) ⟨Nat.le_of_ble_eq_true rfl, Nat.le_of_ble_eq_true rfl⟩) hKX hP hS (va_recv hK hP (ci := 1) (q0 := 0) rfl rfl) rfl hl.1 rfl (Nat.le_of_ble_eq_true rfl) dX1_noRow_11 ⟨Nat.le_of_ble_eq_true rfl, Nat.le_of_ble_eq_true rfl⟩ (fun H locs hP hS => ?_)
    exact zk_iret hx hb hr hlk (zk_p1 hf) (zk_pB hf hP) hS dX1_noRow_14
abbrev zw_X1_isSo_rm : Room := { frames := 6, cells := 0, slots := 0, locals := 148 }
abbrev zw_X1_isSo_vs (o : Nat) (p1 : Int) : List Value := [.ref o, zk_I p1]
set_option maxHeartbeats 4000000 in
set_option maxRecDepth 100000 in
theorem zw_X1_isSo (l : Launch) {D : va_G} {o : Nat} {a : Nat → Nat} {dA : Nat → ClassId} {A : Nat → Prop} (hD : ∀ τ, va_D A (zm_P o a dA τ)) (N : Nat) (p1 : Int) (σ : ZS) (r : Int) (σ' : ZS) (hf : zm_isSo N p1 σ = some (r, σ')) : zk_MW l yX1_isSo (ws_ yX1_isSo cX1_isSo 4 (Option.some Jvm.ClassFile.FieldType.boolean)) zw_X1_isSo_rm D zk_cl (zk_ty dA) A (zw_X1_isSo_vs o p1) (zm_P o a dA σ) (zm_P o a dA σ') (some (zk_I r)) := by
  refine zk_startW (by decide +kernel) (Nat.le_of_ble_eq_true rfl) (fun p e s m below meth c H locs ls hx hb hr hlk hml hown hts hKX hP hS hl => ?_)
  have hl : lv_has ls 4 [(0, .ref o), (1, zk_I p1)] := hl
  have hK := hKX.1
  have hown : s.vm.findClass RX1 = some m.cls := hown
  have hf : zm_isSo N p1 σ = some (r, σ') := hf
  have hJ51 : ∀ (x2 : Int) (s0 : ZS) (H : Heap) (locs : List Loc) (ls : Array Slot), zm_isSo_j51 N x2 s0 = some (r, σ') → lv_has ls 4 [(2, zk_I x2)] → va_P D zk_cl (zm_P o a dA s0) H → va_S A s.heap H locs → W p l e zw_X1_isSo_rm s m (zw_X1_isSo_vs o p1).toArray below meth c H locs 0 0 (MQ below (zk_Q (some (zk_I r)) (fun t => va_P D zk_cl (zm_P o a dA σ') t.heap) A) (zw_X1_isSo_vs o p1).toArray s 0 0 A) (F0 m 51 ls []) := by
    intro x2 s0 H locs ls hf hl hP hS
    refine zk_iloadn hx hb dX1_isSo_51 rfl (lv_at hl 0 rfl) ?_
    obtain ⟨hz, hf⟩ := zk_gs hf
    exact zk_zret hx hb hr hlk hz (zk_p1 hf) (zk_pB hf hP) hS dX1_isSo_52
  have hL4 : ∀ (n : Nat) (x1 x2 x3 : Int) (s0 : ZS) (H : Heap) (locs : List Loc) (ls : Array Slot), zk_b (zk_loop (α := Int × Int × ZS) (β := Int × ZS) n (fun a => zm_isSo_b4 N x1 a.1 a.2.1 a.2.2) (x2, x3, s0)) (fun e => zm_isSo_j51 N e.1 e.2) = some (r, σ') → lv_has ls 4 [(0, .ref o), (1, zk_I x1), (2, zk_I x2), (3, zk_I x3)] → va_P D zk_cl (zm_P o a dA s0) H → va_S A s.heap H locs → W p l e zw_X1_isSo_rm s m (zw_X1_isSo_vs o p1).toArray below meth c H locs 0 0 (MQ below (zk_Q (some (zk_I r)) (fun t => va_P D zk_cl (zm_P o a dA σ') t.heap) A) (zw_X1_isSo_vs o p1).toArray s 0 0 A) (F0 m 4 ls []) := by
    intro n
    induction n with
    | zero => intro x1 x2 x3 s0 H locs ls hf; exact (zk_l0 hf).elim
    | succ n ih4 =>
      intro x1 x2 x3 s0 H locs ls hf hl hP hS
      obtain ⟨c4, hf, hc4⟩ := zk_ls hf
      have hJ44 : ∀ (x3 y0 : Int) (s0 : ZS) (H : Heap) (locs : List Loc) (ls : Array Slot), zm_isSo_j44 N x1 x3 y0 s0 = some c4 → lv_has ls 4 [(0, .ref o), (1, zk_I x1), (3, zk_I x3)] → va_P D zk_cl (zm_P o a dA s0) H → va_S A s.heap H locs → W p l e zw_X1_isSo_rm s m (zw_X1_isSo_vs o p1).toArray below meth c H locs 0 0 (MQ below (zk_Q (some (zk_I r)) (fun t => va_P D zk_cl (zm_P o a dA σ') t.heap) A) (zw_X1_isSo_vs o p1).toArray s 0 0 A) (F0 m 44 ls [zk_I y0]) := by
        intro x3 y0 s0 H locs ls hf hl hP hS
        refine lv_istore_n (lv' := [(2, zk_I y0), (0, .ref o), (1, zk_I x1), (3, zk_I x3)]) hx hb dX1_isSo_44 rfl hl (by decide) rfl (fun ls hl => ?_)
        refine zk_iincN (lv' := fun x3_3 => [(3, zk_I x3_3), (2, zk_I y0), (0, .ref o), (1, zk_I x1)]) hx hb dX1_isSo_45 hl (k := 3) rfl (by decide) (fun _ => rfl) hf (fun x3_3 hf ls hl => ?_)
        refine lv_goto (tgt := 4) hx hb dX1_isSo_48 (by decide) ?_
        obtain rfl := zk_so hf
        exact ih4 _ _ _ _ H locs ls hc4 (lv_sub hl [2, 3, 1, 0] rfl) hP hS
      have hJ43 : ∀ (x3 : Int) (s0 : ZS) (H : Heap) (locs : List Loc) (ls : Array Slot), zm_isSo_j43 N x1 x3 s0 = some c4 → lv_has ls 4 [(0, .ref o), (1, zk_I x1), (3, zk_I x3)] → va_P D zk_cl (zm_P o a dA s0) H → va_S A s.heap H locs → W p l e zw_X1_isSo_rm s m (zw_X1_isSo_vs o p1).toArray below meth c H locs 0 0 (MQ below (zk_Q (some (zk_I r)) (fun t => va_P D zk_cl (zm_P o a dA σ') t.heap) A) (zw_X1_isSo_vs o p1).toArray s 0 0 A) (F0 m 43 ls []) := by
        intro x3 s0 H locs ls hf hl hP hS
        refine zk_iconst hx hb dX1_isSo_43 ?_
        exact hJ44 _ _ _ H locs ls hf (lv_sub hl [0, 1, 2] rfl) hP hS
      refine zk_iloadn hx hb dX1_isSo_4 rfl (lv_at hl 3 rfl) ?_
      refine lv_aload_n hx hb dX1_isSo_5 rfl (lv_at hl 0 rfl) ?_
      refine zm_rget hx hb hts hown hK hP 3 (by decide) q952 rfl dX1_isSo_6 ?_
      refine zk_iloadn hx hb dX1_isSo_9 rfl (lv_at hl 1 rfl) ?_
      refine zk_iald hx hb hK hP 3 0 rfl rfl (N := 6) ⟨by decide, by decide⟩ hf dX1_isSo_10 (fun hf => ?_)
      refine zk_icmp_ge (tgt := 51) hx hb dX1_isSo_11 (by decide) hf (fun h => h) (fun hf => ?_) (fun hf => ?_)
      · obtain rfl := zk_so hf
        exact hJ51 _ _ H locs ls hc4 (lv_sub hl [2] rfl) hP hS
      · refine zk_iloadn hx hb dX1_isSo_14 rfl (lv_at hl 2 rfl) ?_
        refine zk_if_eq (tgt := 43) hx hb dX1_isSo_15 (by decide) hf (fun h => h) (fun hf => ?_) (fun hf => ?_)
        · exact hJ43 _ _ H locs ls hf (lv_sub hl [0, 1, 3] rfl) hP hS
        · refine lv_aload_n hx hb dX1_isSo_18 rfl (lv_at hl 0 rfl) ?_
          refine zk_sipush hx hb dX1_isSo_19 (by decide) ?_
          obtain ⟨v1, s2, hq, hf⟩ := zk_b2s hf
          refine zk_callVW (As := [zk_I 3284]) (rest := []) ⟨hx, hb, hml, hown, hts⟩ (zw_X1_passes l hD N 3284 s0 _ _ hq) (cwV 1 hts (lw_V q1169 q1171 qs59 q88 q1172) rfl rfl rfl (by decide +kernel) ⟨Nat.le_of_ble_eq_true rfl, Nat.le_of_ble_eq_true rfl⟩) hKX hP hS (va_recv hK hP (ci := 1) (q0 := 0) rfl rfl) rfl hl.1 rfl (Nat.le_of_ble_eq_true rfl) dX1_isSo_22 ⟨Nat.le_of_ble_eq_true rfl, Nat.le_of_ble_eq_true rfl⟩ (fun H locs hP hS => ?_)
          refine lv_aload_n hx hb dX1_isSo_25 rfl (lv_at hl 0 rfl) ?_
          refine zm_rget hx hb hts hown hK hP 4 (by decide) q953 rfl dX1_isSo_26 ?_
          refine zk_bipush hx hb dX1_isSo_29 (by decide) ?_
          refine zk_iloadn hx hb dX1_isSo_31 rfl (lv_at hl 1 rfl) ?_
          refine zk_imul hx hb dX1_isSo_32 ?_
          refine zk_iloadn hx hb dX1_isSo_33 rfl (lv_at hl 3 rfl) ?_
          refine zk_iadd hx hb dX1_isSo_34 ?_
          refine zk_iald hx hb hK hP 4 0 rfl rfl (N := 240) ⟨by decide, by decide⟩ hf dX1_isSo_35 (fun hf => ?_)
          refine zk_icmp_ne (tgt := 43) hx hb dX1_isSo_36 (by decide) hf (fun h => h) (fun hf => ?_) (fun hf => ?_)
          · exact hJ43 _ _ H locs ls hf (lv_sub hl [0, 1, 3] rfl) hP hS
          · refine zk_iconst hx hb dX1_isSo_39 ?_
            refine lv_goto (tgt := 44) hx hb dX1_isSo_40 (by decide) ?_
            exact hJ44 _ _ _ H locs ls hf (lv_sub hl [0, 1, 3] rfl) hP hS
  refine zk_iconst hx hb dX1_isSo_0 ?_
  refine lv_istore_n (lv' := [(2, zk_I 1), (0, .ref o), (1, zk_I p1)]) hx hb dX1_isSo_1 rfl hl (by decide) rfl (fun ls hl => ?_)
  refine zk_iconst hx hb dX1_isSo_2 ?_
  refine lv_istore_n (lv' := [(3, zk_I 0), (2, zk_I 1), (0, .ref o), (1, zk_I p1)]) hx hb dX1_isSo_3 rfl hl (by decide) rfl (fun ls hl => ?_)
  exact hL4 N _ _ _ _ H locs ls hf (lv_sub hl [2, 3, 1, 0] rfl) hP hS
abbrev zw_X1_daringsBy_rm : Room := { frames := 7, cells := 0, slots := 0, locals := 171 }
abbrev zw_X1_daringsBy_vs (o : Nat) (p1 p2 : Int) : List Value := [.ref o, zk_I p1, zk_I p2]
set_option maxHeartbeats 4000000 in
set_option maxRecDepth 100000 in
theorem zw_X1_daringsBy (l : Launch) {D : va_G} {o : Nat} {a : Nat → Nat} {dA : Nat → ClassId} {A : Nat → Prop} (hD : ∀ τ, va_D A (zm_P o a dA τ)) (N : Nat) (p1 p2 : Int) (σ : ZS) (r : Int) (σ' : ZS) (hf : zm_daringsBy N p1 p2 σ = some (r, σ')) : zk_MW l yX1_daringsBy (ws_ yX1_daringsBy cX1_daringsBy 5 (Option.some Jvm.ClassFile.FieldType.int)) zw_X1_daringsBy_rm D zk_cl (zk_ty dA) A (zw_X1_daringsBy_vs o p1 p2) (zm_P o a dA σ) (zm_P o a dA σ') (some (zk_I r)) := by
  refine zk_startW (by decide +kernel) (Nat.le_of_ble_eq_true rfl) (fun p e s m below meth c H locs ls hx hb hr hlk hml hown hts hKX hP hS hl => ?_)
  have hl : lv_has ls 5 [(0, .ref o), (1, zk_I p1), (2, zk_I p2)] := hl
  have hK := hKX.1
  have hown : s.vm.findClass RX1 = some m.cls := hown
  have hf : zm_daringsBy N p1 p2 σ = some (r, σ') := hf
  have hJ53 : ∀ (x3 : Int) (s0 : ZS) (H : Heap) (locs : List Loc) (ls : Array Slot), zm_daringsBy_j53 N x3 s0 = some (r, σ') → lv_has ls 5 [(3, zk_I x3)] → va_P D zk_cl (zm_P o a dA s0) H → va_S A s.heap H locs → W p l e zw_X1_daringsBy_rm s m (zw_X1_daringsBy_vs o p1 p2).toArray below meth c H locs 0 0 (MQ below (zk_Q (some (zk_I r)) (fun t => va_P D zk_cl (zm_P o a dA σ') t.heap) A) (zw_X1_daringsBy_vs o p1 p2).toArray s 0 0 A) (F0 m 53 ls []) := by
    intro x3 s0 H locs ls hf hl hP hS
    refine zk_iloadn hx hb dX1_daringsBy_53 rfl (lv_at hl 0 rfl) ?_
    exact zk_iret hx hb hr hlk (zk_p1 hf) (zk_pB hf hP) hS dX1_daringsBy_54
  have hL5 : ∀ (n : Nat) (x1 x2 x3 x4 : Int) (s0 : ZS) (H : Heap) (locs : List Loc) (ls : Array Slot), zk_b (zk_loop (α := Int × Int × ZS) (β := Int × ZS) n (fun a => zm_daringsBy_b5 N x1 x2 a.1 a.2.1 a.2.2) (x3, x4, s0)) (fun e => zm_daringsBy_j53 N e.1 e.2) = some (r, σ') → lv_has ls 5 [(0, .ref o), (1, zk_I x1), (2, zk_I x2), (3, zk_I x3), (4, zk_I x4)] → va_P D zk_cl (zm_P o a dA s0) H → va_S A s.heap H locs → W p l e zw_X1_daringsBy_rm s m (zw_X1_daringsBy_vs o p1 p2).toArray below meth c H locs 0 0 (MQ below (zk_Q (some (zk_I r)) (fun t => va_P D zk_cl (zm_P o a dA σ') t.heap) A) (zw_X1_daringsBy_vs o p1 p2).toArray s 0 0 A) (F0 m 5 ls []) := by
    intro n
    induction n with
    | zero => intro x1 x2 x3 x4 s0 H locs ls hf; exact (zk_l0 hf).elim
    | succ n ih5 =>
      intro x1 x2 x3 x4 s0 H locs ls hf hl hP hS
      obtain ⟨c5, hf, hc5⟩ := zk_ls hf
      have hJ45 : ∀ (x4 y0 y1 : Int) (s0 : ZS) (H : Heap) (locs : List Loc) (ls : Array Slot), zm_daringsBy_j45 N x1 x2 x4 y0 y1 s0 = some c5 → lv_has ls 5 [(0, .ref o), (1, zk_I x1), (2, zk_I x2), (4, zk_I x4)] → va_P D zk_cl (zm_P o a dA s0) H → va_S A s.heap H locs → W p l e zw_X1_daringsBy_rm s m (zw_X1_daringsBy_vs o p1 p2).toArray below meth c H locs 0 0 (MQ below (zk_Q (some (zk_I r)) (fun t => va_P D zk_cl (zm_P o a dA σ') t.heap) A) (zw_X1_daringsBy_vs o p1 p2).toArray s 0 0 A) (F0 m 45 ls [zk_I y1, zk_I y0]) := by
        intro x4 y0 y1 s0 H locs ls hf hl hP hS
        refine zk_rior hx hb dX1_daringsBy_45 ?_
        refine zk_istorenN (lv' := fun x3_6 => [(3, zk_I x3_6), (0, .ref o), (1, zk_I x1), (2, zk_I x2), (4, zk_I x4)]) hx hb dX1_daringsBy_46 rfl hl (by decide) (fun _ => rfl) hf (fun x3_6 hf ls hl => ?_)
        refine zk_iincN (lv' := fun x4_7 => [(4, zk_I x4_7), (3, zk_I x3_6), (0, .ref o), (1, zk_I x1), (2, zk_I x2)]) hx hb dX1_daringsBy_47 hl (k := 4) rfl (by decide) (fun _ => rfl) hf (fun x4_7 hf ls hl => ?_)
        refine lv_goto (tgt := 5) hx hb dX1_daringsBy_50 (by decide) ?_
        obtain rfl := zk_so hf
        exact ih5 _ _ _ _ _ H locs ls hc5 (lv_sub hl [2, 3, 4, 1, 0] rfl) hP hS
      refine zk_iload hx hb dX1_daringsBy_5 (lv_at hl 4 rfl) ?_
      refine zk_bipush hx hb dX1_daringsBy_7 (by decide) ?_
      refine zk_icmp_ge (tgt := 53) hx hb dX1_daringsBy_9 (by decide) hf (fun h => ⟨h, by decide⟩) (fun hf => ?_) (fun hf => ?_)
      · obtain rfl := zk_so hf
        exact hJ53 _ _ H locs ls hc5 (lv_sub hl [3] rfl) hP hS
      · refine lv_aload_n hx hb dX1_daringsBy_12 rfl (lv_at hl 0 rfl) ?_
        obtain ⟨v1, s2, hq, hf⟩ := zk_b2s hf
        refine zk_callVW (As := []) (rest := []) ⟨hx, hb, hml, hown, hts⟩ (zw_X1_layTried l hD N  s0 _ _ hq) (cwV 0 hts (lw_V q1229 q1231 qs64 q88 q1232) rfl rfl rfl (by decide +kernel) ⟨Nat.le_of_ble_eq_true rfl, Nat.le_of_ble_eq_true rfl⟩) hKX hP hS (va_recv hK hP (ci := 1) (q0 := 0) rfl rfl) rfl hl.1 rfl (Nat.le_of_ble_eq_true rfl) dX1_daringsBy_13 ⟨Nat.le_of_ble_eq_true rfl, Nat.le_of_ble_eq_true rfl⟩ (fun H locs hP hS => ?_)
        refine lv_aload_n hx hb dX1_daringsBy_16 rfl (lv_at hl 0 rfl) ?_
        refine zm_rget hx hb hts hown hK hP 0 (by decide) q949 rfl dX1_daringsBy_17 ?_
        refine zk_sipush hx hb dX1_daringsBy_20 (by decide) ?_
        refine zk_iloadn hx hb dX1_daringsBy_23 rfl (lv_at hl 1 rfl) ?_
        refine zk_iadd hx hb dX1_daringsBy_24 ?_
        refine zk_iload hx hb dX1_daringsBy_25 (lv_at hl 4 rfl) ?_
        refine zk_iastN hx hb hK hP hD hS 1 0 0 rfl rfl (N := 3305) ⟨by decide, by decide⟩ (zm_t0 _ _ _) hf dX1_daringsBy_27 (fun s3 H locs hf hP hS => ?_)
        refine zk_iloadn hx hb dX1_daringsBy_28 rfl (lv_at hl 3 rfl) ?_
        refine lv_aload_n hx hb dX1_daringsBy_29 rfl (lv_at hl 0 rfl) ?_
        refine zk_iloadn hx hb dX1_daringsBy_30 rfl (lv_at hl 2 rfl) ?_
        obtain ⟨v4, s5, hq, hf⟩ := zk_b2s hf
        refine zk_callVW (As := [zk_I x2]) (rest := [zk_I x3]) ⟨hx, hb, hml, hown, hts⟩ (zw_X1_isSo l hD N x2 s3 _ _ hq) (cwV 1 hts (lw_V q1279 q1281 qs71 q88 q1282) rfl rfl rfl (by decide +kernel) ⟨Nat.le_of_ble_eq_true rfl, Nat.le_of_ble_eq_true rfl⟩) hKX hP hS (va_recv hK hP (ci := 1) (q0 := 0) rfl rfl) rfl hl.1 rfl (Nat.le_of_ble_eq_true rfl) dX1_daringsBy_31 ⟨Nat.le_of_ble_eq_true rfl, Nat.le_of_ble_eq_true rfl⟩ (fun H locs hP hS => ?_)
        refine zk_if_eq (tgt := 44) hx hb dX1_daringsBy_34 (by decide) hf (fun h => h) (fun hf => ?_) (fun hf => ?_)
        · refine zk_iconst hx hb dX1_daringsBy_44 ?_
          exact hJ45 _ _ _ _ H locs ls hf (lv_sub hl [0, 1, 2, 4] rfl) hP hS
        · refine zk_iconst hx hb dX1_daringsBy_37 ?_
          refine zk_iload hx hb dX1_daringsBy_38 (lv_at hl 4 rfl) ?_
          refine zk_rishl hx hb dX1_daringsBy_40 hf (fun hf => ?_)
          refine lv_goto (tgt := 45) hx hb dX1_daringsBy_41 (by decide) ?_
          exact hJ45 _ _ _ _ H locs ls hf (lv_sub hl [0, 1, 2, 4] rfl) hP hS
  refine zk_iconst hx hb dX1_daringsBy_0 ?_
  refine lv_istore_n (lv' := [(3, zk_I 0), (0, .ref o), (1, zk_I p1), (2, zk_I p2)]) hx hb dX1_daringsBy_1 rfl hl (by decide) rfl (fun ls hl => ?_)
  refine zk_iconst hx hb dX1_daringsBy_2 ?_
  refine lv_istore (lv' := [(4, zk_I 0), (3, zk_I 0), (0, .ref o), (1, zk_I p1), (2, zk_I p2)]) hx hb dX1_daringsBy_3 hl (by decide) rfl (fun ls hl => ?_)
  exact hL5 N _ _ _ _ _ H locs ls hf (lv_sub hl [2, 3, 4, 1, 0] rfl) hP hS
abbrev zw_X1_darings_rm : Room := { frames := 8, cells := 0, slots := 0, locals := 195 }
abbrev zw_X1_darings_vs (o : Nat) (p1 p2 : Int) : List Value := [.ref o, zk_I p1, zk_I p2]
set_option maxHeartbeats 4000000 in
set_option maxRecDepth 100000 in
theorem zw_X1_darings (l : Launch) {D : va_G} {o : Nat} {a : Nat → Nat} {dA : Nat → ClassId} {A : Nat → Prop} (hD : ∀ τ, va_D A (zm_P o a dA τ)) (N : Nat) (p1 p2 : Int) (σ : ZS) (r : Int) (σ' : ZS) (hf : zm_darings N p1 p2 σ = some (r, σ')) : zk_MW l yX1_darings (ws_ yX1_darings cX1_darings 4 (Option.some Jvm.ClassFile.FieldType.int)) zw_X1_darings_rm D zk_cl (zk_ty dA) A (zw_X1_darings_vs o p1 p2) (zm_P o a dA σ) (zm_P o a dA σ') (some (zk_I r)) := by
  refine zk_startW (by decide +kernel) (Nat.le_of_ble_eq_true rfl) (fun p e s m below meth c H locs ls hx hb hr hlk hml hown hts hKX hP hS hl => ?_)
  have hl : lv_has ls 4 [(0, .ref o), (1, zk_I p1), (2, zk_I p2)] := hl
  have hK := hKX.1
  have hown : s.vm.findClass RX1 = some m.cls := hown
  have hf : zm_darings N p1 p2 σ = some (r, σ') := hf
  refine lv_aload_n hx hb dX1_darings_0 rfl (lv_at hl 0 rfl) ?_
  refine zk_iloadn hx hb dX1_darings_1 rfl (lv_at hl 1 rfl) ?_
  obtain ⟨v1, hq, hf⟩ := zk_bs hf
  refine zk_callVR (As := [zk_I p1]) (rest := []) ⟨hx, hb, hml, hown, hts⟩ (zw_X1_isOne l p1 σ _ hq) (cwV 1 hts (lw_V q1127 q1129 qs52 q88 q1130) rfl rfl rfl (by decide +kernel) ⟨Nat.le_of_ble_eq_true rfl, Nat.le_of_ble_eq_true rfl⟩) hKX hP hS (va_recv hK hP (ci := 1) (q0 := 0) rfl rfl) rfl hl.1 rfl (Nat.le_of_ble_eq_true rfl) dX1_darings_2 ⟨Nat.le_of_ble_eq_true rfl, Nat.le_of_ble_eq_true rfl⟩ (fun H locs hP hS => ?_)
  refine zk_if_eq (tgt := 15) hx hb dX1_darings_5 (by decide) hf (fun h => h) (fun hf => ?_) (fun hf => ?_)
  · refine zk_iconst hx hb dX1_darings_15 ?_
    exact zk_iret hx hb hr hlk (zk_p1 hf) (zk_pB hf hP) hS dX1_darings_16
  · refine zk_iloadn hx hb dX1_darings_8 rfl (lv_at hl 2 rfl) ?_
    obtain ⟨v2, hq, hf⟩ := zk_bs hf
    refine zk_callSS (As := [zk_I p2]) (rest := []) ⟨hx, hb, hml, hown, hts⟩ (zw_X1_isRow l p2 _ hq) (va_cwS 1 hts (lw_S q1023 q1024 q88 q1025) rfl rfl rfl (by decide +kernel) ⟨Nat.le_of_ble_eq_true rfl, Nat.le_of_ble_eq_true rfl⟩) hP hS rfl hl.1 rfl (Nat.le_of_ble_eq_true rfl) dX1_darings_9 ⟨Nat.le_of_ble_eq_true rfl, Nat.le_of_ble_eq_true rfl⟩ (fun H locs hP hS => ?_)
    refine zk_if_ne (tgt := 17) hx hb dX1_darings_12 (by decide) hf (fun h => h) (fun hf => ?_) (fun hf => ?_)
    · refine lv_aload_n hx hb dX1_darings_17 rfl (lv_at hl 0 rfl) ?_
      refine zk_iloadn hx hb dX1_darings_18 rfl (lv_at hl 2 rfl) ?_
      obtain ⟨v3, s4, hq, hf⟩ := zk_b2s hf
      refine zk_callVW (As := [zk_I p2]) (rest := []) ⟨hx, hb, hml, hown, hts⟩ (zw_X1_noRow l hD N p2 σ _ _ hq) (cwV 1 hts (lw_V q1270 q1272 qs69 q88 q1273) rfl rfl rfl (by decide +kernel) ⟨Nat.le_of_ble_eq_true rfl, Nat.le_of_ble_eq_true rfl⟩) hKX hP hS (va_recv hK hP (ci := 1) (q0 := 0) rfl rfl) rfl hl.1 rfl (Nat.le_of_ble_eq_true rfl) dX1_darings_19 ⟨Nat.le_of_ble_eq_true rfl, Nat.le_of_ble_eq_true rfl⟩ (fun H locs hP hS => ?_)
      refine lv_istore_n (lv' := [(3, zk_I v3), (0, .ref o), (1, zk_I p1), (2, zk_I p2)]) hx hb dX1_darings_22 rfl hl (by decide) rfl (fun ls hl => ?_)
      refine zk_iloadn hx hb dX1_darings_23 rfl (lv_at hl 0 rfl) ?_
      refine zk_if_eq (tgt := 31) hx hb dX1_darings_24 (by decide) hf (fun h => h) (fun hf => ?_) (fun hf => ?_)
      · refine lv_aload_n hx hb dX1_darings_31 rfl (lv_at hl 1 rfl) ?_
        refine zk_iloadn hx hb dX1_darings_32 rfl (lv_at hl 2 rfl) ?_
        refine zk_iloadn hx hb dX1_darings_33 rfl (lv_at hl 3 rfl) ?_
        obtain ⟨v5, s6, hq, hf⟩ := zk_b2s hf
        refine zk_callVW (As := [zk_I p1, zk_I p2]) (rest := []) ⟨hx, hb, hml, hown, hts⟩ (zw_X1_daringsBy l hD N p1 p2 s4 _ _ hq) (cwV 2 hts (lw_V q1275 q1277 qs70 q88 q1278) rfl rfl rfl (by decide +kernel) ⟨Nat.le_of_ble_eq_true rfl, Nat.le_of_ble_eq_true rfl⟩) hKX hP hS (va_recv hK hP (ci := 1) (q0 := 0) rfl rfl) rfl hl.1 rfl (Nat.le_of_ble_eq_true rfl) dX1_darings_34 ⟨Nat.le_of_ble_eq_true rfl, Nat.le_of_ble_eq_true rfl⟩ (fun H locs hP hS => ?_)
        exact zk_iret hx hb hr hlk (zk_p1 hf) (zk_pB hf hP) hS dX1_darings_37
      · refine zk_iloadn hx hb dX1_darings_27 rfl (lv_at hl 0 rfl) ?_
        refine lv_goto (tgt := 37) hx hb dX1_darings_28 (by decide) ?_
        exact zk_iret hx hb hr hlk (zk_p1 hf) (zk_pB hf hP) hS dX1_darings_37
    · refine zk_iconst hx hb dX1_darings_15 ?_
      exact zk_iret hx hb hr hlk (zk_p1 hf) (zk_pB hf hP) hS dX1_darings_16
abbrev zw_X1_kinds_rm : Room := { frames := 7, cells := 0, slots := 0, locals := 171 }
abbrev zw_X1_kinds_vs (o : Nat) (p1 p2 : Int) : List Value := [.ref o, zk_I p1, zk_I p2]
set_option maxHeartbeats 4000000 in
set_option maxRecDepth 100000 in
theorem zw_X1_kinds (l : Launch) {D : va_G} {o : Nat} {a : Nat → Nat} {dA : Nat → ClassId} {A : Nat → Prop} (hD : ∀ τ, va_D A (zm_P o a dA τ)) (N : Nat) (p1 p2 : Int) (σ : ZS) (r : Int) (σ' : ZS) (hf : zm_kinds N p1 p2 σ = some (r, σ')) : zk_MW l yX1_kinds (ws_ yX1_kinds cX1_kinds 7 (Option.some Jvm.ClassFile.FieldType.int)) zw_X1_kinds_rm D zk_cl (zk_ty dA) A (zw_X1_kinds_vs o p1 p2) (zm_P o a dA σ) (zm_P o a dA σ') (some (zk_I r)) := by
  refine zk_startW (by decide +kernel) (Nat.le_of_ble_eq_true rfl) (fun p e s m below meth c H locs ls hx hb hr hlk hml hown hts hKX hP hS hl => ?_)
  have hl : lv_has ls 7 [(0, .ref o), (1, zk_I p1), (2, zk_I p2)] := hl
  have hK := hKX.1
  have hown : s.vm.findClass RX1 = some m.cls := hown
  have hf : zm_kinds N p1 p2 σ = some (r, σ') := hf
  have hJ89 : ∀ (x1 x4 x5 : Int) (s0 : ZS) (H : Heap) (locs : List Loc) (ls : Array Slot), zm_kinds_j89 N x1 x4 x5 s0 = some (r, σ') → lv_has ls 7 [(0, .ref o), (1, zk_I x1), (4, zk_I x4), (5, zk_I x5)] → va_P D zk_cl (zm_P o a dA s0) H → va_S A s.heap H locs → W p l e zw_X1_kinds_rm s m (zw_X1_kinds_vs o p1 p2).toArray below meth c H locs 0 0 (MQ below (zk_Q (some (zk_I r)) (fun t => va_P D zk_cl (zm_P o a dA σ') t.heap) A) (zw_X1_kinds_vs o p1 p2).toArray s 0 0 A) (F0 m 89 ls []) := by
    intro x1 x4 x5 s0 H locs ls hf hl hP hS
    refine lv_aload_n hx hb dX1_kinds_89 rfl (lv_at hl 0 rfl) ?_
    refine zm_rget hx hb hts hown hK hP 2 (by decide) q951 rfl dX1_kinds_90 ?_
    refine zk_iloadn hx hb dX1_kinds_93 rfl (lv_at hl 1 rfl) ?_
    refine zk_iload hx hb dX1_kinds_94 (lv_at hl 2 rfl) ?_
    refine zk_iastN hx hb hK hP hD hS 2 0 2 rfl rfl (N := 6) ⟨by decide, by decide⟩ (zm_t2 _ _ _) hf dX1_kinds_96 (fun s13 H locs hf hP hS => ?_)
    refine zk_iload hx hb dX1_kinds_97 (lv_at hl 3 rfl) ?_
    exact zk_iret hx hb hr hlk (zk_p1 hf) (zk_pB hf hP) hS dX1_kinds_99
  have hL43 : ∀ (n : Nat) (x1 x2 x4 x5 x6 : Int) (s0 : ZS) (H : Heap) (locs : List Loc) (ls : Array Slot), zk_b (zk_loop (α := Int × Int × ZS) (β := Int × ZS) n (fun a => zm_kinds_b43 N x1 x2 x4 a.1 a.2.1 a.2.2) (x5, x6, s0)) (fun e => zm_kinds_j89 N x1 x4 e.1 e.2) = some (r, σ') → lv_has ls 7 [(0, .ref o), (1, zk_I x1), (2, zk_I x2), (4, zk_I x4), (5, zk_I x5), (6, zk_I x6)] → va_P D zk_cl (zm_P o a dA s0) H → va_S A s.heap H locs → W p l e zw_X1_kinds_rm s m (zw_X1_kinds_vs o p1 p2).toArray below meth c H locs 0 0 (MQ below (zk_Q (some (zk_I r)) (fun t => va_P D zk_cl (zm_P o a dA σ') t.heap) A) (zw_X1_kinds_vs o p1 p2).toArray s 0 0 A) (F0 m 43 ls []) := by
    intro n
    induction n with
    | zero => intro x1 x2 x4 x5 x6 s0 H locs ls hf; exact (zk_l0 hf).elim
    | succ n ih43 =>
      intro x1 x2 x4 x5 x6 s0 H locs ls hf hl hP hS
      obtain ⟨c43, hf, hc43⟩ := zk_ls hf
      have hJ80 : ∀ (x6 y0 y1 : Int) (s0 : ZS) (H : Heap) (locs : List Loc) (ls : Array Slot), zm_kinds_j80 N x1 x2 x4 x6 y0 y1 s0 = some c43 → lv_has ls 7 [(0, .ref o), (1, zk_I x1), (2, zk_I x2), (4, zk_I x4), (6, zk_I x6)] → va_P D zk_cl (zm_P o a dA s0) H → va_S A s.heap H locs → W p l e zw_X1_kinds_rm s m (zw_X1_kinds_vs o p1 p2).toArray below meth c H locs 0 0 (MQ below (zk_Q (some (zk_I r)) (fun t => va_P D zk_cl (zm_P o a dA σ') t.heap) A) (zw_X1_kinds_vs o p1 p2).toArray s 0 0 A) (F0 m 80 ls [zk_I y1, zk_I y0]) := by
        intro x6 y0 y1 s0 H locs ls hf hl hP hS
        refine zk_rior hx hb dX1_kinds_80 ?_
        refine zk_istoreN (lv' := fun x5_11 => [(5, zk_I x5_11), (0, .ref o), (1, zk_I x1), (2, zk_I x2), (4, zk_I x4), (6, zk_I x6)]) hx hb dX1_kinds_81 hl (by decide) (fun _ => rfl) hf (fun x5_11 hf ls hl => ?_)
        refine zk_iincN (lv' := fun x6_12 => [(6, zk_I x6_12), (5, zk_I x5_11), (0, .ref o), (1, zk_I x1), (2, zk_I x2), (4, zk_I x4)]) hx hb dX1_kinds_83 hl (k := 5) rfl (by decide) (fun _ => rfl) hf (fun x6_12 hf ls hl => ?_)
        refine lv_goto (tgt := 43) hx hb dX1_kinds_86 (by decide) ?_
        obtain rfl := zk_so hf
        exact ih43 _ _ _ _ _ _ H locs ls hc43 (lv_sub hl [2, 3, 4, 5, 1, 0] rfl) hP hS
      refine zk_iload hx hb dX1_kinds_43 (lv_at hl 5 rfl) ?_
      refine zk_bipush hx hb dX1_kinds_45 (by decide) ?_
      refine zk_icmp_ge (tgt := 89) hx hb dX1_kinds_47 (by decide) hf (fun h => ⟨h, by decide⟩) (fun hf => ?_) (fun hf => ?_)
      · obtain rfl := zk_so hf
        exact hJ89 _ _ _ _ H locs ls hc43 (lv_sub hl [0, 1, 3, 4] rfl) hP hS
      · refine lv_aload_n hx hb dX1_kinds_50 rfl (lv_at hl 0 rfl) ?_
        refine zm_rget hx hb hts hown hK hP 2 (by decide) q951 rfl dX1_kinds_51 ?_
        refine zk_iloadn hx hb dX1_kinds_54 rfl (lv_at hl 1 rfl) ?_
        refine zk_iload hx hb dX1_kinds_55 (lv_at hl 5 rfl) ?_
        refine zk_iastN hx hb hK hP hD hS 2 0 2 rfl rfl (N := 6) ⟨by decide, by decide⟩ (zm_t2 _ _ _) hf dX1_kinds_57 (fun s6 H locs hf hP hS => ?_)
        refine lv_aload_n hx hb dX1_kinds_58 rfl (lv_at hl 0 rfl) ?_
        obtain ⟨v7, s8, hq, hf⟩ := zk_b2s hf
        refine zk_callVW (As := []) (rest := []) ⟨hx, hb, hml, hown, hts⟩ (zw_X1_layTried l hD N  s6 _ _ hq) (cwV 0 hts (lw_V q1229 q1231 qs64 q88 q1232) rfl rfl rfl (by decide +kernel) ⟨Nat.le_of_ble_eq_true rfl, Nat.le_of_ble_eq_true rfl⟩) hKX hP hS (va_recv hK hP (ci := 1) (q0 := 0) rfl rfl) rfl hl.1 rfl (Nat.le_of_ble_eq_true rfl) dX1_kinds_59 ⟨Nat.le_of_ble_eq_true rfl, Nat.le_of_ble_eq_true rfl⟩ (fun H locs hP hS => ?_)
        refine zk_iload hx hb dX1_kinds_62 (lv_at hl 4 rfl) ?_
        refine lv_aload_n hx hb dX1_kinds_64 rfl (lv_at hl 0 rfl) ?_
        refine zk_iloadn hx hb dX1_kinds_65 rfl (lv_at hl 2 rfl) ?_
        obtain ⟨v9, s10, hq, hf⟩ := zk_b2s hf
        refine zk_callVW (As := [zk_I x2]) (rest := [zk_I x5]) ⟨hx, hb, hml, hown, hts⟩ (zw_X1_isSo l hD N x2 s8 _ _ hq) (cwV 1 hts (lw_V q1279 q1281 qs71 q88 q1282) rfl rfl rfl (by decide +kernel) ⟨Nat.le_of_ble_eq_true rfl, Nat.le_of_ble_eq_true rfl⟩) hKX hP hS (va_recv hK hP (ci := 1) (q0 := 0) rfl rfl) rfl hl.1 rfl (Nat.le_of_ble_eq_true rfl) dX1_kinds_66 ⟨Nat.le_of_ble_eq_true rfl, Nat.le_of_ble_eq_true rfl⟩ (fun H locs hP hS => ?_)
        refine zk_if_eq (tgt := 79) hx hb dX1_kinds_69 (by decide) hf (fun h => h) (fun hf => ?_) (fun hf => ?_)
        · refine zk_iconst hx hb dX1_kinds_79 ?_
          exact hJ80 _ _ _ _ H locs ls hf (lv_sub hl [0, 1, 2, 3, 5] rfl) hP hS
        · refine zk_iconst hx hb dX1_kinds_72 ?_
          refine zk_iload hx hb dX1_kinds_73 (lv_at hl 5 rfl) ?_
          refine zk_rishl hx hb dX1_kinds_75 hf (fun hf => ?_)
          refine lv_goto (tgt := 80) hx hb dX1_kinds_76 (by decide) ?_
          exact hJ80 _ _ _ _ H locs ls hf (lv_sub hl [0, 1, 2, 3, 5] rfl) hP hS
  refine lv_aload_n hx hb dX1_kinds_0 rfl (lv_at hl 0 rfl) ?_
  refine zk_iloadn hx hb dX1_kinds_1 rfl (lv_at hl 1 rfl) ?_
  obtain ⟨v1, hq, hf⟩ := zk_bs hf
  refine zk_callVR (As := [zk_I p1]) (rest := []) ⟨hx, hb, hml, hown, hts⟩ (zw_X1_isOne l p1 σ _ hq) (cwV 1 hts (lw_V q1127 q1129 qs52 q88 q1130) rfl rfl rfl (by decide +kernel) ⟨Nat.le_of_ble_eq_true rfl, Nat.le_of_ble_eq_true rfl⟩) hKX hP hS (va_recv hK hP (ci := 1) (q0 := 0) rfl rfl) rfl hl.1 rfl (Nat.le_of_ble_eq_true rfl) dX1_kinds_2 ⟨Nat.le_of_ble_eq_true rfl, Nat.le_of_ble_eq_true rfl⟩ (fun H locs hP hS => ?_)
  refine zk_if_eq (tgt := 15) hx hb dX1_kinds_5 (by decide) hf (fun h => h) (fun hf => ?_) (fun hf => ?_)
  · refine zk_iconst hx hb dX1_kinds_15 ?_
    exact zk_iret hx hb hr hlk (zk_p1 hf) (zk_pB hf hP) hS dX1_kinds_16
  · refine zk_iloadn hx hb dX1_kinds_8 rfl (lv_at hl 2 rfl) ?_
    obtain ⟨v2, hq, hf⟩ := zk_bs hf
    refine zk_callSS (As := [zk_I p2]) (rest := []) ⟨hx, hb, hml, hown, hts⟩ (zw_X1_isRow l p2 _ hq) (va_cwS 1 hts (lw_S q1023 q1024 q88 q1025) rfl rfl rfl (by decide +kernel) ⟨Nat.le_of_ble_eq_true rfl, Nat.le_of_ble_eq_true rfl⟩) hP hS rfl hl.1 rfl (Nat.le_of_ble_eq_true rfl) dX1_kinds_9 ⟨Nat.le_of_ble_eq_true rfl, Nat.le_of_ble_eq_true rfl⟩ (fun H locs hP hS => ?_)
    refine zk_if_ne (tgt := 17) hx hb dX1_kinds_12 (by decide) hf (fun h => h) (fun hf => ?_) (fun hf => ?_)
    · refine lv_aload_n hx hb dX1_kinds_17 rfl (lv_at hl 0 rfl) ?_
      refine zk_iloadn hx hb dX1_kinds_18 rfl (lv_at hl 2 rfl) ?_
      obtain ⟨v3, s4, hq, hf⟩ := zk_b2s hf
      refine zk_callVW (As := [zk_I p2]) (rest := []) ⟨hx, hb, hml, hown, hts⟩ (zw_X1_noRow l hD N p2 σ _ _ hq) (cwV 1 hts (lw_V q1270 q1272 qs69 q88 q1273) rfl rfl rfl (by decide +kernel) ⟨Nat.le_of_ble_eq_true rfl, Nat.le_of_ble_eq_true rfl⟩) hKX hP hS (va_recv hK hP (ci := 1) (q0 := 0) rfl rfl) rfl hl.1 rfl (Nat.le_of_ble_eq_true rfl) dX1_kinds_19 ⟨Nat.le_of_ble_eq_true rfl, Nat.le_of_ble_eq_true rfl⟩ (fun H locs hP hS => ?_)
      refine lv_istore_n (lv' := [(3, zk_I v3), (0, .ref o), (1, zk_I p1), (2, zk_I p2)]) hx hb dX1_kinds_22 rfl hl (by decide) rfl (fun ls hl => ?_)
      refine zk_iloadn hx hb dX1_kinds_23 rfl (lv_at hl 0 rfl) ?_
      refine zk_if_eq (tgt := 29) hx hb dX1_kinds_24 (by decide) hf (fun h => h) (fun hf => ?_) (fun hf => ?_)
      · refine lv_aload_n hx hb dX1_kinds_29 rfl (lv_at hl 1 rfl) ?_
        refine zm_rget hx hb hts hown hK hP 2 (by decide) q951 rfl dX1_kinds_30 ?_
        refine zk_iloadn hx hb dX1_kinds_33 rfl (lv_at hl 2 rfl) ?_
        refine zk_iald hx hb hK hP 2 0 rfl rfl (N := 6) ⟨by decide, by decide⟩ hf dX1_kinds_34 (fun hf => ?_)
        refine zk_istoreN (lv' := fun x4_5 => [(4, zk_I x4_5), (3, zk_I v3), (0, .ref o), (1, zk_I p1), (2, zk_I p2)]) hx hb dX1_kinds_35 hl (by decide) (fun _ => rfl) hf (fun x4_5 hf ls hl => ?_)
        refine zk_iconst hx hb dX1_kinds_37 ?_
        refine lv_istore (lv' := [(5, zk_I 0), (4, zk_I x4_5), (3, zk_I v3), (0, .ref o), (1, zk_I p1), (2, zk_I p2)]) hx hb dX1_kinds_38 hl (by decide) rfl (fun ls hl => ?_)
        refine zk_iconst hx hb dX1_kinds_40 ?_
        refine lv_istore (lv' := [(6, zk_I 0), (5, zk_I 0), (4, zk_I x4_5), (3, zk_I v3), (0, .ref o), (1, zk_I p1), (2, zk_I p2)]) hx hb dX1_kinds_41 hl (by decide) rfl (fun ls hl => ?_)
        exact hL43 N _ _ _ _ _ _ H locs ls hf (lv_sub hl [4, 5, 6, 2, 1, 0] rfl) hP hS
      · refine zk_iloadn hx hb dX1_kinds_27 rfl (lv_at hl 0 rfl) ?_
        exact zk_iret hx hb hr hlk (zk_p1 hf) (zk_pB hf hP) hS dX1_kinds_28
    · refine zk_iconst hx hb dX1_kinds_15 ?_
      exact zk_iret hx hb hr hlk (zk_p1 hf) (zk_pB hf hP) hS dX1_kinds_16
abbrev zw_X1_layParts_rm : Room := { frames := 6, cells := 0, slots := 0, locals := 148 }
abbrev zw_X1_layParts_vs (o : Nat) (p1 p2 : Int) : List Value := [.ref o, zk_I p1, zk_I p2]
set_option maxHeartbeats 4000000 in
set_option maxRecDepth 100000 in
theorem zw_X1_layParts (l : Launch) {D : va_G} {o : Nat} {a : Nat → Nat} {dA : Nat → ClassId} {A : Nat → Prop} (hD : ∀ τ, va_D A (zm_P o a dA τ)) (N : Nat) (p1 p2 : Int) (σ : ZS) (r : Int) (σ' : ZS) (hf : zm_layParts N p1 p2 σ = some (r, σ')) : zk_MW l yX1_layParts (ws_ yX1_layParts cX1_layParts 6 (Option.none : Option Jvm.ClassFile.FieldType)) zw_X1_layParts_rm D zk_cl (zk_ty dA) A (zw_X1_layParts_vs o p1 p2) (zm_P o a dA σ) (zm_P o a dA σ') none := by
  refine zk_startW (by decide +kernel) (Nat.le_of_ble_eq_true rfl) (fun p e s m below meth c H locs ls hx hb hr hlk hml hown hts hKX hP hS hl => ?_)
  have hl : lv_has ls 6 [(0, .ref o), (1, zk_I p1), (2, zk_I p2)] := hl
  have hK := hKX.1
  have hown : s.vm.findClass RX1 = some m.cls := hown
  have hf : zm_layParts N p1 p2 σ = some (r, σ') := hf
  have hJ114 : ∀ (s0 : ZS) (H : Heap) (locs : List Loc) (ls : Array Slot), zm_layParts_j114 N  s0 = some (r, σ') → lv_has ls 6 [] → va_P D zk_cl (zm_P o a dA s0) H → va_S A s.heap H locs → W p l e zw_X1_layParts_rm s m (zw_X1_layParts_vs o p1 p2).toArray below meth c H locs 0 0 (MQ below (zk_Q none (fun t => va_P D zk_cl (zm_P o a dA σ') t.heap) A) (zw_X1_layParts_vs o p1 p2).toArray s 0 0 A) (F0 m 114 ls []) := by
    intro s0 H locs ls hf hl hP hS
    exact zk_vret hx hb hr hlk (zk_pB hf hP) hS dX1_layParts_114
  have hL24 : ∀ (n : Nat) (x1 x2 x3 : Int) (s0 : ZS) (H : Heap) (locs : List Loc) (ls : Array Slot), zk_b (zk_loop (α := Int × ZS) (β := ZS) n (fun a => zm_layParts_b24 N x1 x2 a.1 a.2) (x3, s0)) (fun e => zm_layParts_j114 N e) = some (r, σ') → lv_has ls 6 [(0, .ref o), (1, zk_I x1), (2, zk_I x2), (3, zk_I x3)] → va_P D zk_cl (zm_P o a dA s0) H → va_S A s.heap H locs → W p l e zw_X1_layParts_rm s m (zw_X1_layParts_vs o p1 p2).toArray below meth c H locs 0 0 (MQ below (zk_Q none (fun t => va_P D zk_cl (zm_P o a dA σ') t.heap) A) (zw_X1_layParts_vs o p1 p2).toArray s 0 0 A) (F0 m 24 ls []) := by
    intro n
    induction n with
    | zero => intro x1 x2 x3 s0 H locs ls hf; exact (zk_l0 hf).elim
    | succ n ih24 =>
      intro x1 x2 x3 s0 H locs ls hf hl hP hS
      obtain ⟨c24, hf, hc24⟩ := zk_ls hf
      have hJ108 : ∀ (x3 : Int) (s0 : ZS) (H : Heap) (locs : List Loc) (ls : Array Slot), zm_layParts_j108 N x1 x2 x3 s0 = some c24 → lv_has ls 6 [(0, .ref o), (1, zk_I x1), (2, zk_I x2), (3, zk_I x3)] → va_P D zk_cl (zm_P o a dA s0) H → va_S A s.heap H locs → W p l e zw_X1_layParts_rm s m (zw_X1_layParts_vs o p1 p2).toArray below meth c H locs 0 0 (MQ below (zk_Q none (fun t => va_P D zk_cl (zm_P o a dA σ') t.heap) A) (zw_X1_layParts_vs o p1 p2).toArray s 0 0 A) (F0 m 108 ls []) := by
        intro x3 s0 H locs ls hf hl hP hS
        refine zk_iincN (lv' := fun x3_7 => [(3, zk_I x3_7), (0, .ref o), (1, zk_I x1), (2, zk_I x2)]) hx hb dX1_layParts_108 hl (k := 3) rfl (by decide) (fun _ => rfl) hf (fun x3_7 hf ls hl => ?_)
        refine lv_goto (tgt := 24) hx hb dX1_layParts_111 (by decide) ?_
        obtain rfl := zk_so hf
        exact ih24 _ _ _ _ H locs ls hc24 (lv_sub hl [1, 2, 3, 0] rfl) hP hS
      have hL56 : ∀ (n : Nat) (x3 x4 : Int) (s0 : ZS) (H : Heap) (locs : List Loc) (ls : Array Slot), zk_b (zk_loop (α := Int × ZS) (β := ZS) n (fun a => zm_layParts_b56 N x1 x2 x3 a.1 a.2) (x4, s0)) (fun e => zm_layParts_j108 N x1 x2 x3 e) = some c24 → lv_has ls 6 [(0, .ref o), (1, zk_I x1), (2, zk_I x2), (3, zk_I x3), (4, zk_I x4)] → va_P D zk_cl (zm_P o a dA s0) H → va_S A s.heap H locs → W p l e zw_X1_layParts_rm s m (zw_X1_layParts_vs o p1 p2).toArray below meth c H locs 0 0 (MQ below (zk_Q none (fun t => va_P D zk_cl (zm_P o a dA σ') t.heap) A) (zw_X1_layParts_vs o p1 p2).toArray s 0 0 A) (F0 m 56 ls []) := by
        intro n
        induction n with
        | zero => intro x3 x4 s0 H locs ls hf; exact (zk_l0 hf).elim
        | succ n ih56 =>
          intro x3 x4 s0 H locs ls hf hl hP hS
          obtain ⟨c56, hf, hc56⟩ := zk_ls hf
          refine zk_iload hx hb dX1_layParts_56 (lv_at hl 4 rfl) ?_
          refine zk_bipush hx hb dX1_layParts_58 (by decide) ?_
          refine zk_icmp_ge (tgt := 108) hx hb dX1_layParts_60 (by decide) hf (fun h => ⟨h, by decide⟩) (fun hf => ?_) (fun hf => ?_)
          · obtain rfl := zk_so hf
            exact hJ108 _ _ H locs ls hc56 (lv_sub hl [0, 1, 2, 3] rfl) hP hS
          · refine lv_aload_n hx hb dX1_layParts_63 rfl (lv_at hl 0 rfl) ?_
            refine zk_sipush hx hb dX1_layParts_64 (by decide) ?_
            obtain ⟨v8, s9, hq, hf⟩ := zk_b2s hf
            refine zk_callVW (As := [zk_I 3284]) (rest := []) ⟨hx, hb, hml, hown, hts⟩ (zw_X1_passes l hD N 3284 s0 _ _ hq) (cwV 1 hts (lw_V q1169 q1171 qs59 q88 q1172) rfl rfl rfl (by decide +kernel) ⟨Nat.le_of_ble_eq_true rfl, Nat.le_of_ble_eq_true rfl⟩) hKX hP hS (va_recv hK hP (ci := 1) (q0 := 0) rfl rfl) rfl hl.1 rfl (Nat.le_of_ble_eq_true rfl) dX1_layParts_67 ⟨Nat.le_of_ble_eq_true rfl, Nat.le_of_ble_eq_true rfl⟩ (fun H locs hP hS => ?_)
            refine lv_istore (lv' := [(5, zk_I v8), (0, .ref o), (1, zk_I x1), (2, zk_I x2), (3, zk_I x3), (4, zk_I x4)]) hx hb dX1_layParts_70 hl (by decide) rfl (fun ls hl => ?_)
            refine lv_aload_n hx hb dX1_layParts_72 rfl (lv_at hl 1 rfl) ?_
            refine zm_rget hx hb hts hown hK hP 20 (by decide) q969 rfl dX1_layParts_73 ?_
            refine zk_bipush hx hb dX1_layParts_76 (by decide) ?_
            refine zk_iload hx hb dX1_layParts_78 (lv_at hl 5 rfl) ?_
            refine zk_imul hx hb dX1_layParts_80 ?_
            refine zk_iload hx hb dX1_layParts_81 (lv_at hl 0 rfl) ?_
            refine zk_bipush hx hb dX1_layParts_83 (by decide) ?_
            obtain ⟨hg, hf⟩ := zk_gs hf
            have hV : W p l e zw_X1_layParts_rm s m (zw_X1_layParts_vs o p1 p2).toArray below meth c H locs 0 0 (MQ below (zk_Q none (fun t => va_P D zk_cl (zm_P o a dA σ') t.heap) A) (zw_X1_layParts_vs o p1 p2).toArray s 0 0 A) (F0 m 96 ls [zk_I (if v8 = (-9) then 0 else 1 + v8), zk_I (7 * x4), .ref (a 20)]) := by
              refine zk_iadd hx hb dX1_layParts_96 ?_
              refine lv_dup2_11 hx hb dX1_layParts_97 rfl rfl ?_
              refine zk_iald hx hb hK hP 11 0 rfl rfl (N := 147) ⟨by decide, by decide⟩ hf dX1_layParts_98 (fun hf => ?_)
              refine zk_iconst hx hb dX1_layParts_99 ?_
              refine zk_iadd hx hb dX1_layParts_100 ?_
              refine zk_iastN hx hb hK hP hD hS 11 0 20 rfl rfl (N := 147) ⟨by decide, by decide⟩ (zm_t20 _ _ _) hf dX1_layParts_101 (fun s10 H locs hf hP hS => ?_)
              refine zk_iincN (lv' := fun x4_11 => [(4, zk_I x4_11), (5, zk_I v8), (0, .ref o), (1, zk_I x1), (2, zk_I x2), (3, zk_I x3)]) hx hb dX1_layParts_102 hl (k := 5) rfl (by decide) (fun _ => rfl) hf (fun x4_11 hf ls hl => ?_)
              refine lv_goto (tgt := 56) hx hb dX1_layParts_105 (by decide) ?_
              obtain rfl := zk_so hf
              exact ih56 _ _ _ H locs ls hc56 (lv_sub hl [2, 3, 4, 5, 0] rfl) hP hS
            refine zk_icmp_neV (tgt := 92) hx hb dX1_layParts_85 (by decide) ((fun h => ⟨h, by decide⟩) hg) (fun hc => ?_) (fun hc => ?_)
            · rw [if_neg hc] at hV
              refine zk_iconst hx hb dX1_layParts_92 ?_
              refine zk_iload hx hb dX1_layParts_93 (lv_at hl 0 rfl) ?_
              refine zk_iadd hx hb dX1_layParts_95 ?_
              exact hV
            · rw [if_pos hc] at hV
              refine zk_iconst hx hb dX1_layParts_88 ?_
              refine lv_goto (tgt := 96) hx hb dX1_layParts_89 (by decide) ?_
              exact hV
      refine zk_iloadn hx hb dX1_layParts_24 rfl (lv_at hl 3 rfl) ?_
      refine zk_bipush hx hb dX1_layParts_25 (by decide) ?_
      refine zk_icmp_ge (tgt := 114) hx hb dX1_layParts_27 (by decide) hf (fun h => ⟨h, by decide⟩) (fun hf => ?_) (fun hf => ?_)
      · obtain rfl := zk_so hf
        exact hJ114 _ H locs ls hc24 (lv_sub hl [] rfl) hP hS
      · refine zk_iloadn hx hb dX1_layParts_30 rfl (lv_at hl 2 rfl) ?_
        refine zk_iloadn hx hb dX1_layParts_31 rfl (lv_at hl 3 rfl) ?_
        obtain ⟨v3, hq, hf⟩ := zk_bs hf
        refine zk_callSS (As := [zk_I x2, zk_I x3]) (rest := []) ⟨hx, hb, hml, hown, hts⟩ (zw_X1_has l x2 x3 _ hq) (va_cwS 2 hts (lw_S q1177 q1178 q88 q1179) rfl rfl rfl (by decide +kernel) ⟨Nat.le_of_ble_eq_true rfl, Nat.le_of_ble_eq_true rfl⟩) hP hS rfl hl.1 rfl (Nat.le_of_ble_eq_true rfl) dX1_layParts_32 ⟨Nat.le_of_ble_eq_true rfl, Nat.le_of_ble_eq_true rfl⟩ (fun H locs hP hS => ?_)
        refine zk_if_eq (tgt := 108) hx hb dX1_layParts_35 (by decide) hf (fun h => h) (fun hf => ?_) (fun hf => ?_)
        · exact hJ108 _ _ H locs ls hf (lv_sub hl [0, 1, 2, 3] rfl) hP hS
        · refine lv_aload_n hx hb dX1_layParts_38 rfl (lv_at hl 0 rfl) ?_
          obtain ⟨v4, s5, hq, hf⟩ := zk_b2s hf
          refine zk_callVW (As := []) (rest := []) ⟨hx, hb, hml, hown, hts⟩ (zw_X1_layTried l hD N  s0 _ _ hq) (cwV 0 hts (lw_V q1229 q1231 qs64 q88 q1232) rfl rfl rfl (by decide +kernel) ⟨Nat.le_of_ble_eq_true rfl, Nat.le_of_ble_eq_true rfl⟩) hKX hP hS (va_recv hK hP (ci := 1) (q0 := 0) rfl rfl) rfl hl.1 rfl (Nat.le_of_ble_eq_true rfl) dX1_layParts_39 ⟨Nat.le_of_ble_eq_true rfl, Nat.le_of_ble_eq_true rfl⟩ (fun H locs hP hS => ?_)
          refine lv_aload_n hx hb dX1_layParts_42 rfl (lv_at hl 0 rfl) ?_
          refine zm_rget hx hb hts hown hK hP 0 (by decide) q949 rfl dX1_layParts_43 ?_
          refine zk_sipush hx hb dX1_layParts_46 (by decide) ?_
          refine zk_iloadn hx hb dX1_layParts_49 rfl (lv_at hl 1 rfl) ?_
          refine zk_iadd hx hb dX1_layParts_50 ?_
          refine zk_iloadn hx hb dX1_layParts_51 rfl (lv_at hl 3 rfl) ?_
          refine zk_iastN hx hb hK hP hD hS 1 0 0 rfl rfl (N := 3305) ⟨by decide, by decide⟩ (zm_t0 _ _ _) hf dX1_layParts_52 (fun s6 H locs hf hP hS => ?_)
          refine zk_iconst hx hb dX1_layParts_53 ?_
          refine lv_istore (lv' := [(4, zk_I 1), (0, .ref o), (1, zk_I x1), (2, zk_I x2), (3, zk_I x3)]) hx hb dX1_layParts_54 hl (by decide) rfl (fun ls hl => ?_)
          exact hL56 N _ _ _ H locs ls hf (lv_sub hl [1, 2, 3, 4, 0] rfl) hP hS
  have hJ22 : ∀ (x1 x2 : Int) (s0 : ZS) (H : Heap) (locs : List Loc) (ls : Array Slot), zm_layParts_j22 N x1 x2 s0 = some (r, σ') → lv_has ls 6 [(0, .ref o), (1, zk_I x1), (2, zk_I x2)] → va_P D zk_cl (zm_P o a dA s0) H → va_S A s.heap H locs → W p l e zw_X1_layParts_rm s m (zw_X1_layParts_vs o p1 p2).toArray below meth c H locs 0 0 (MQ below (zk_Q none (fun t => va_P D zk_cl (zm_P o a dA σ') t.heap) A) (zw_X1_layParts_vs o p1 p2).toArray s 0 0 A) (F0 m 22 ls []) := by
    intro x1 x2 s0 H locs ls hf hl hP hS
    refine zk_iconst hx hb dX1_layParts_22 ?_
    refine lv_istore_n (lv' := [(3, zk_I 0), (0, .ref o), (1, zk_I x1), (2, zk_I x2)]) hx hb dX1_layParts_23 rfl hl (by decide) rfl (fun ls hl => ?_)
    exact hL24 N _ _ _ _ H locs ls hf (lv_sub hl [1, 2, 3, 0] rfl) hP hS
  have hL2 : ∀ (n : Nat) (x1 x2 x3 : Int) (s0 : ZS) (H : Heap) (locs : List Loc) (ls : Array Slot), zk_b (zk_loop (α := Int × ZS) (β := ZS) n (fun a => zm_layParts_b2 N x1 x2 a.1 a.2) (x3, s0)) (fun e => zm_layParts_j22 N x1 x2 e) = some (r, σ') → lv_has ls 6 [(0, .ref o), (1, zk_I x1), (2, zk_I x2), (3, zk_I x3)] → va_P D zk_cl (zm_P o a dA s0) H → va_S A s.heap H locs → W p l e zw_X1_layParts_rm s m (zw_X1_layParts_vs o p1 p2).toArray below meth c H locs 0 0 (MQ below (zk_Q none (fun t => va_P D zk_cl (zm_P o a dA σ') t.heap) A) (zw_X1_layParts_vs o p1 p2).toArray s 0 0 A) (F0 m 2 ls []) := by
    intro n
    induction n with
    | zero => intro x1 x2 x3 s0 H locs ls hf; exact (zk_l0 hf).elim
    | succ n ih2 =>
      intro x1 x2 x3 s0 H locs ls hf hl hP hS
      obtain ⟨c2, hf, hc2⟩ := zk_ls hf
      refine zk_iloadn hx hb dX1_layParts_2 rfl (lv_at hl 3 rfl) ?_
      refine zk_sipush hx hb dX1_layParts_3 (by decide) ?_
      refine zk_icmp_ge (tgt := 22) hx hb dX1_layParts_6 (by decide) hf (fun h => ⟨h, by decide⟩) (fun hf => ?_) (fun hf => ?_)
      · obtain rfl := zk_so hf
        exact hJ22 _ _ _ H locs ls hc2 (lv_sub hl [0, 1, 2] rfl) hP hS
      · refine lv_aload_n hx hb dX1_layParts_9 rfl (lv_at hl 0 rfl) ?_
        refine zm_rget hx hb hts hown hK hP 20 (by decide) q969 rfl dX1_layParts_10 ?_
        refine zk_iloadn hx hb dX1_layParts_13 rfl (lv_at hl 3 rfl) ?_
        refine zk_iconst hx hb dX1_layParts_14 ?_
        refine zk_iastN hx hb hK hP hD hS 11 0 20 rfl rfl (N := 147) ⟨by decide, by decide⟩ (zm_t20 _ _ _) hf dX1_layParts_15 (fun s1 H locs hf hP hS => ?_)
        refine zk_iincN (lv' := fun x3_2 => [(3, zk_I x3_2), (0, .ref o), (1, zk_I x1), (2, zk_I x2)]) hx hb dX1_layParts_16 hl (k := 3) rfl (by decide) (fun _ => rfl) hf (fun x3_2 hf ls hl => ?_)
        refine lv_goto (tgt := 2) hx hb dX1_layParts_19 (by decide) ?_
        obtain rfl := zk_so hf
        exact ih2 _ _ _ _ H locs ls hc2 (lv_sub hl [1, 2, 3, 0] rfl) hP hS
  refine zk_iconst hx hb dX1_layParts_0 ?_
  refine lv_istore_n (lv' := [(3, zk_I 0), (0, .ref o), (1, zk_I p1), (2, zk_I p2)]) hx hb dX1_layParts_1 rfl hl (by decide) rfl (fun ls hl => ?_)
  exact hL2 N _ _ _ _ H locs ls hf (lv_sub hl [1, 2, 3, 0] rfl) hP hS
abbrev zw_X1_greatestPart_rm : Room := { frames := 1, cells := 0, slots := 0, locals := 32 }
abbrev zw_X1_greatestPart_vs (o : Nat) (p1 : Int) : List Value := [.ref o, zk_I p1]
set_option maxHeartbeats 4000000 in
set_option maxRecDepth 100000 in
theorem zw_X1_greatestPart (l : Launch) {D : va_G} {o : Nat} {a : Nat → Nat} {dA : Nat → ClassId} (N : Nat) (p1 : Int) (σ : ZS) (r : Int) (hf : zm_greatestPart N p1 σ = some r) : zk_MR l yX1_greatestPart (ws_ yX1_greatestPart cX1_greatestPart 4 (Option.some Jvm.ClassFile.FieldType.int)) zw_X1_greatestPart_rm D zk_cl (zk_ty dA) (zw_X1_greatestPart_vs o p1) (zm_P o a dA σ) (some (zk_I r)) := by
  refine zk_startW (by decide +kernel) (Nat.le_of_ble_eq_true rfl) (fun p e s m below meth c H locs ls hx hb hr hlk hml hown hts hKX hP hS hl => ?_)
  have hl : lv_has ls 4 [(0, .ref o), (1, zk_I p1)] := hl
  have hK := hKX.1
  have hown : s.vm.findClass RX1 = some m.cls := hown
  have hf : zm_greatestPart N p1 σ = some r := hf
  have hJ45 : ∀ (x2 : Int) (H : Heap) (locs : List Loc) (ls : Array Slot), zm_greatestPart_j45 N x2 σ = some r → lv_has ls 4 [(2, zk_I x2)] → va_P D zk_cl (zm_P o a dA σ) H → va_S (fun _ => False) s.heap H locs → W p l e zw_X1_greatestPart_rm s m (zw_X1_greatestPart_vs o p1).toArray below meth c H locs 0 0 (MQ below (zk_Q (some (zk_I r)) (fun _ => True) (fun _ => False)) (zw_X1_greatestPart_vs o p1).toArray s 0 0 (fun _ => False)) (F0 m 45 ls []) := by
    intro x2 H locs ls hf hl hP hS
    refine zk_iloadn hx hb dX1_greatestPart_45 rfl (lv_at hl 0 rfl) ?_
    exact zk_iret hx hb hr hlk (Option.some.inj hf) (fun _ _ => trivial) hS dX1_greatestPart_46
  have hL7 : ∀ (n : Nat) (x1 x2 x3 : Int) (H : Heap) (locs : List Loc) (ls : Array Slot), zk_b (zk_loop (α := Int × Int) (β := Int) n (fun a => zm_greatestPart_b7 N x1 a.1 a.2 σ) (x2, x3)) (fun e => zm_greatestPart_j45 N e σ) = some r → lv_has ls 4 [(0, .ref o), (1, zk_I x1), (2, zk_I x2), (3, zk_I x3)] → va_P D zk_cl (zm_P o a dA σ) H → va_S (fun _ => False) s.heap H locs → W p l e zw_X1_greatestPart_rm s m (zw_X1_greatestPart_vs o p1).toArray below meth c H locs 0 0 (MQ below (zk_Q (some (zk_I r)) (fun _ => True) (fun _ => False)) (zw_X1_greatestPart_vs o p1).toArray s 0 0 (fun _ => False)) (F0 m 7 ls []) := by
    intro n
    induction n with
    | zero => intro x1 x2 x3 H locs ls hf; exact (zk_l0 hf).elim
    | succ n ih7 =>
      intro x1 x2 x3 H locs ls hf hl hP hS
      obtain ⟨c7, hf, hc7⟩ := zk_ls hf
      have hJ38 : ∀ (x3 y0 : Int) (H : Heap) (locs : List Loc) (ls : Array Slot), zm_greatestPart_j38 N x1 x3 y0 σ = some c7 → lv_has ls 4 [(0, .ref o), (1, zk_I x1), (3, zk_I x3)] → va_P D zk_cl (zm_P o a dA σ) H → va_S (fun _ => False) s.heap H locs → W p l e zw_X1_greatestPart_rm s m (zw_X1_greatestPart_vs o p1).toArray below meth c H locs 0 0 (MQ below (zk_Q (some (zk_I r)) (fun _ => True) (fun _ => False)) (zw_X1_greatestPart_vs o p1).toArray s 0 0 (fun _ => False)) (F0 m 38 ls [zk_I y0]) := by
        intro x3 y0 H locs ls hf hl hP hS
        refine lv_istore_n (lv' := [(2, zk_I y0), (0, .ref o), (1, zk_I x1), (3, zk_I x3)]) hx hb dX1_greatestPart_38 rfl hl (by decide) rfl (fun ls hl => ?_)
        refine zk_iincN (lv' := fun x3_2 => [(3, zk_I x3_2), (2, zk_I y0), (0, .ref o), (1, zk_I x1)]) hx hb dX1_greatestPart_39 hl (k := 3) rfl (by decide) (fun _ => rfl) hf (fun x3_2 hf ls hl => ?_)
        refine lv_goto (tgt := 7) hx hb dX1_greatestPart_42 (by decide) ?_
        obtain rfl := zk_so hf
        exact ih7 _ _ _ H locs ls hc7 (lv_sub hl [2, 3, 1, 0] rfl) hP hS
      refine zk_iloadn hx hb dX1_greatestPart_7 rfl (lv_at hl 3 rfl) ?_
      refine zk_bipush hx hb dX1_greatestPart_8 (by decide) ?_
      refine zk_iloadn hx hb dX1_greatestPart_10 rfl (lv_at hl 1 rfl) ?_
      refine zk_imul hx hb dX1_greatestPart_11 ?_
      refine zk_bipush hx hb dX1_greatestPart_12 (by decide) ?_
      refine zk_iadd hx hb dX1_greatestPart_14 ?_
      refine zk_icmp_ge (tgt := 45) hx hb dX1_greatestPart_15 (by decide) hf (fun h => h) (fun hf => ?_) (fun hf => ?_)
      · obtain rfl := zk_so hf
        exact hJ45 _ H locs ls hc7 (lv_sub hl [2] rfl) hP hS
      · refine lv_aload_n hx hb dX1_greatestPart_18 rfl (lv_at hl 0 rfl) ?_
        refine zm_rget hx hb hts hown hK hP 20 (by decide) q969 rfl dX1_greatestPart_19 ?_
        refine zk_iloadn hx hb dX1_greatestPart_22 rfl (lv_at hl 3 rfl) ?_
        refine zk_iald hx hb hK hP 11 0 rfl rfl (N := 147) ⟨by decide, by decide⟩ hf dX1_greatestPart_23 (fun hf => ?_)
        refine zk_iloadn hx hb dX1_greatestPart_24 rfl (lv_at hl 2 rfl) ?_
        refine zk_icmp_le (tgt := 37) hx hb dX1_greatestPart_25 (by decide) hf (fun h => h) (fun hf => ?_) (fun hf => ?_)
        · refine zk_iloadn hx hb dX1_greatestPart_37 rfl (lv_at hl 2 rfl) ?_
          exact hJ38 _ _ H locs ls hf (lv_sub hl [0, 1, 3] rfl) hP hS
        · refine lv_aload_n hx hb dX1_greatestPart_28 rfl (lv_at hl 0 rfl) ?_
          refine zm_rget hx hb hts hown hK hP 20 (by decide) q969 rfl dX1_greatestPart_29 ?_
          refine zk_iloadn hx hb dX1_greatestPart_32 rfl (lv_at hl 3 rfl) ?_
          refine zk_iald hx hb hK hP 11 0 rfl rfl (N := 147) ⟨by decide, by decide⟩ hf dX1_greatestPart_33 (fun hf => ?_)
          refine lv_goto (tgt := 38) hx hb dX1_greatestPart_34 (by decide) ?_
          exact hJ38 _ _ H locs ls hf (lv_sub hl [0, 1, 3] rfl) hP hS
  refine zk_iconst hx hb dX1_greatestPart_0 ?_
  refine lv_istore_n (lv' := [(2, zk_I 0), (0, .ref o), (1, zk_I p1)]) hx hb dX1_greatestPart_1 rfl hl (by decide) rfl (fun ls hl => ?_)
  refine zk_bipush hx hb dX1_greatestPart_2 (by decide) ?_
  refine zk_iloadn hx hb dX1_greatestPart_4 rfl (lv_at hl 2 rfl) ?_
  refine zk_imul hx hb dX1_greatestPart_5 ?_
  refine zk_istorenN (lv' := fun x3_1 => [(3, zk_I x3_1), (2, zk_I 0), (0, .ref o), (1, zk_I p1)]) hx hb dX1_greatestPart_6 rfl hl (by decide) (fun _ => rfl) hf (fun x3_1 hf ls hl => ?_)
  exact hL7 N _ _ _ H locs ls hf (lv_sub hl [2, 3, 1, 0] rfl) hP hS
abbrev zw_X1_look_rm : Room := { frames := 8, cells := 0, slots := 0, locals := 195 }
abbrev zw_X1_look_vs (o : Nat) (p1 p2 : Int) : List Value := [.ref o, zk_I p1, zk_I p2]
set_option maxHeartbeats 4000000 in
set_option maxRecDepth 100000 in
theorem zw_X1_look (l : Launch) {D : va_G} {o : Nat} {a : Nat → Nat} {dA : Nat → ClassId} {A : Nat → Prop} (hD : ∀ τ, va_D A (zm_P o a dA τ)) (N : Nat) (p1 p2 : Int) (σ : ZS) (r : Int) (σ' : ZS) (hf : zm_look N p1 p2 σ = some (r, σ')) : zk_MW l yX1_look (ws_ yX1_look cX1_look 9 (Option.some Jvm.ClassFile.FieldType.int)) zw_X1_look_rm D zk_cl (zk_ty dA) A (zw_X1_look_vs o p1 p2) (zm_P o a dA σ) (zm_P o a dA σ') (some (zk_I r)) := by
  refine zk_startW (by decide +kernel) (Nat.le_of_ble_eq_true rfl) (fun p e s m below meth c H locs ls hx hb hr hlk hml hown hts hKX hP hS hl => ?_)
  have hl : lv_has ls 9 [(0, .ref o), (1, zk_I p1), (2, zk_I p2)] := hl
  have hK := hKX.1
  have hown : s.vm.findClass RX1 = some m.cls := hown
  have hf : zm_look N p1 p2 σ = some (r, σ') := hf
  have hJ116 : ∀ (x5 x6 : Int) (s0 : ZS) (H : Heap) (locs : List Loc) (ls : Array Slot), zm_look_j116 N x5 x6 s0 = some (r, σ') → lv_has ls 9 [(0, .ref o), (5, zk_I x5), (6, zk_I x6)] → va_P D zk_cl (zm_P o a dA s0) H → va_S A s.heap H locs → W p l e zw_X1_look_rm s m (zw_X1_look_vs o p1 p2).toArray below meth c H locs 0 0 (MQ below (zk_Q (some (zk_I r)) (fun t => va_P D zk_cl (zm_P o a dA σ') t.heap) A) (zw_X1_look_vs o p1 p2).toArray s 0 0 A) (F0 m 116 ls []) := by
    intro x5 x6 s0 H locs ls hf hl hP hS
    refine lv_aload_n hx hb dX1_look_116 rfl (lv_at hl 0 rfl) ?_
    refine zk_iload hx hb dX1_look_117 (lv_at hl 2 rfl) ?_
    refine zm_rput hx hb hts hown hK hP hD hS 7 (by decide) q956 rfl rfl rfl (zm_s7 _ _) hf dX1_look_119 (fun s13 H locs hf hP hS => ?_)
    refine zk_iload hx hb dX1_look_122 (lv_at hl 1 rfl) ?_
    exact zk_iret hx hb hr hlk (zk_p1 hf) (zk_pB hf hP) hS dX1_look_124
  have hL63 : ∀ (n : Nat) (x5 x6 x7 : Int) (s0 : ZS) (H : Heap) (locs : List Loc) (ls : Array Slot), zk_b (zk_loop (α := Int × Int × Int) (β := Int × Int) n (fun a => zm_look_b63 N a.1 a.2.1 a.2.2 s0) (x5, x6, x7)) (fun e => zm_look_j116 N e.1 e.2 s0) = some (r, σ') → lv_has ls 9 [(0, .ref o), (5, zk_I x5), (6, zk_I x6), (7, zk_I x7)] → va_P D zk_cl (zm_P o a dA s0) H → va_S A s.heap H locs → W p l e zw_X1_look_rm s m (zw_X1_look_vs o p1 p2).toArray below meth c H locs 0 0 (MQ below (zk_Q (some (zk_I r)) (fun t => va_P D zk_cl (zm_P o a dA σ') t.heap) A) (zw_X1_look_vs o p1 p2).toArray s 0 0 A) (F0 m 63 ls []) := by
    intro n
    induction n with
    | zero => intro x5 x6 x7 s0 H locs ls hf; exact (zk_l0 hf).elim
    | succ n ih63 =>
      intro x5 x6 x7 s0 H locs ls hf hl hP hS
      obtain ⟨c63, hf, hc63⟩ := zk_ls hf
      refine zk_iload hx hb dX1_look_63 (lv_at hl 3 rfl) ?_
      refine zk_bipush hx hb dX1_look_65 (by decide) ?_
      refine zk_icmp_ge (tgt := 116) hx hb dX1_look_67 (by decide) hf (fun h => ⟨h, by decide⟩) (fun hf => ?_) (fun hf => ?_)
      · obtain rfl := zk_so hf
        exact hJ116 _ _ _ H locs ls hc63 (lv_sub hl [0, 1, 2] rfl) hP hS
      · refine lv_aload_n hx hb dX1_look_70 rfl (lv_at hl 0 rfl) ?_
        refine zk_iload hx hb dX1_look_71 (lv_at hl 3 rfl) ?_
        obtain ⟨v9, hq, hf⟩ := zk_bs hf
        refine zk_callVR (As := [zk_I x7]) (rest := []) ⟨hx, hb, hml, hown, hts⟩ (zw_X1_greatestPart l N x7 s0 _ hq) (cwV 1 hts (lw_V q1295 q1297 qs73 q88 q1298) rfl rfl rfl (by decide +kernel) ⟨Nat.le_of_ble_eq_true rfl, Nat.le_of_ble_eq_true rfl⟩) hKX hP hS (va_recv hK hP (ci := 1) (q0 := 0) rfl rfl) rfl hl.1 rfl (Nat.le_of_ble_eq_true rfl) dX1_look_73 ⟨Nat.le_of_ble_eq_true rfl, Nat.le_of_ble_eq_true rfl⟩ (fun H locs hP hS => ?_)
        refine lv_istore (lv' := [(8, zk_I v9), (0, .ref o), (5, zk_I x5), (6, zk_I x6), (7, zk_I x7)]) hx hb dX1_look_76 hl (by decide) rfl (fun ls hl => ?_)
        refine zk_iload hx hb dX1_look_78 (lv_at hl 0 rfl) ?_
        refine zk_iload hx hb dX1_look_80 (lv_at hl 3 rfl) ?_
        obtain ⟨hg, hf⟩ := zk_gs hf
        have hV : W p l e zw_X1_look_rm s m (zw_X1_look_vs o p1 p2).toArray below meth c H locs 0 0 (MQ below (zk_Q (some (zk_I r)) (fun t => va_P D zk_cl (zm_P o a dA σ') t.heap) A) (zw_X1_look_vs o p1 p2).toArray s 0 0 A) (F0 m 92 ls [zk_I (if x6 ≤ v9 then x5 else x7)]) := by
          refine zk_istoreN (lv' := fun x5_10 => [(5, zk_I x5_10), (8, zk_I v9), (0, .ref o), (6, zk_I x6), (7, zk_I x7)]) hx hb dX1_look_92 hl (by decide) (fun _ => rfl) hf (fun x5_10 hf ls hl => ?_)
          refine zk_iload hx hb dX1_look_94 (lv_at hl 1 rfl) ?_
          refine zk_iload hx hb dX1_look_96 (lv_at hl 3 rfl) ?_
          obtain ⟨hg, hf⟩ := zk_gs hf
          have hV : W p l e zw_X1_look_rm s m (zw_X1_look_vs o p1 p2).toArray below meth c H locs 0 0 (MQ below (zk_Q (some (zk_I r)) (fun t => va_P D zk_cl (zm_P o a dA σ') t.heap) A) (zw_X1_look_vs o p1 p2).toArray s 0 0 A) (F0 m 108 ls [zk_I (if x6 ≤ v9 then x6 else v9)]) := by
            refine zk_istoreN (lv' := fun x6_11 => [(6, zk_I x6_11), (5, zk_I x5_10), (8, zk_I v9), (0, .ref o), (7, zk_I x7)]) hx hb dX1_look_108 hl (by decide) (fun _ => rfl) hf (fun x6_11 hf ls hl => ?_)
            refine zk_iincN (lv' := fun x7_12 => [(7, zk_I x7_12), (6, zk_I x6_11), (5, zk_I x5_10), (8, zk_I v9), (0, .ref o)]) hx hb dX1_look_110 hl (k := 4) rfl (by decide) (fun _ => rfl) hf (fun x7_12 hf ls hl => ?_)
            refine lv_goto (tgt := 63) hx hb dX1_look_113 (by decide) ?_
            obtain rfl := zk_so hf
            exact ih63 _ _ _ _ H locs ls hc63 (lv_sub hl [4, 2, 1, 0] rfl) hP hS
          refine zk_icmp_geV (tgt := 106) hx hb dX1_look_98 (by decide) ((fun h => h) hg) (fun hc => ?_) (fun hc => ?_)
          · rw [if_pos hc] at hV
            refine zk_iload hx hb dX1_look_106 (lv_at hl 3 rfl) ?_
            exact hV
          · rw [if_neg hc] at hV
            refine zk_iload hx hb dX1_look_101 (lv_at hl 1 rfl) ?_
            refine lv_goto (tgt := 108) hx hb dX1_look_103 (by decide) ?_
            exact hV
        refine zk_icmp_geV (tgt := 90) hx hb dX1_look_82 (by decide) ((fun h => h) hg) (fun hc => ?_) (fun hc => ?_)
        · rw [if_pos hc] at hV
          refine zk_iload hx hb dX1_look_90 (lv_at hl 2 rfl) ?_
          exact hV
        · rw [if_neg hc] at hV
          refine zk_iload hx hb dX1_look_85 (lv_at hl 4 rfl) ?_
          refine lv_goto (tgt := 92) hx hb dX1_look_87 (by decide) ?_
          exact hV
  refine lv_aload_n hx hb dX1_look_0 rfl (lv_at hl 0 rfl) ?_
  refine zk_iloadn hx hb dX1_look_1 rfl (lv_at hl 1 rfl) ?_
  obtain ⟨v1, hq, hf⟩ := zk_bs hf
  refine zk_callVR (As := [zk_I p1]) (rest := []) ⟨hx, hb, hml, hown, hts⟩ (zw_X1_isOne l p1 σ _ hq) (cwV 1 hts (lw_V q1127 q1129 qs52 q88 q1130) rfl rfl rfl (by decide +kernel) ⟨Nat.le_of_ble_eq_true rfl, Nat.le_of_ble_eq_true rfl⟩) hKX hP hS (va_recv hK hP (ci := 1) (q0 := 0) rfl rfl) rfl hl.1 rfl (Nat.le_of_ble_eq_true rfl) dX1_look_2 ⟨Nat.le_of_ble_eq_true rfl, Nat.le_of_ble_eq_true rfl⟩ (fun H locs hP hS => ?_)
  refine zk_if_eq (tgt := 15) hx hb dX1_look_5 (by decide) hf (fun h => h) (fun hf => ?_) (fun hf => ?_)
  · refine zk_iconst hx hb dX1_look_15 ?_
    exact zk_iret hx hb hr hlk (zk_p1 hf) (zk_pB hf hP) hS dX1_look_16
  · refine zk_iloadn hx hb dX1_look_8 rfl (lv_at hl 2 rfl) ?_
    obtain ⟨v2, hq, hf⟩ := zk_bs hf
    refine zk_callSS (As := [zk_I p2]) (rest := []) ⟨hx, hb, hml, hown, hts⟩ (zw_X1_isRow l p2 _ hq) (va_cwS 1 hts (lw_S q1023 q1024 q88 q1025) rfl rfl rfl (by decide +kernel) ⟨Nat.le_of_ble_eq_true rfl, Nat.le_of_ble_eq_true rfl⟩) hP hS rfl hl.1 rfl (Nat.le_of_ble_eq_true rfl) dX1_look_9 ⟨Nat.le_of_ble_eq_true rfl, Nat.le_of_ble_eq_true rfl⟩ (fun H locs hP hS => ?_)
    refine zk_if_ne (tgt := 17) hx hb dX1_look_12 (by decide) hf (fun h => h) (fun hf => ?_) (fun hf => ?_)
    · refine lv_aload_n hx hb dX1_look_17 rfl (lv_at hl 0 rfl) ?_
      refine zk_iloadn hx hb dX1_look_18 rfl (lv_at hl 2 rfl) ?_
      obtain ⟨v3, s4, hq, hf⟩ := zk_b2s hf
      refine zk_callVW (As := [zk_I p2]) (rest := []) ⟨hx, hb, hml, hown, hts⟩ (zw_X1_noRow l hD N p2 σ _ _ hq) (cwV 1 hts (lw_V q1270 q1272 qs69 q88 q1273) rfl rfl rfl (by decide +kernel) ⟨Nat.le_of_ble_eq_true rfl, Nat.le_of_ble_eq_true rfl⟩) hKX hP hS (va_recv hK hP (ci := 1) (q0 := 0) rfl rfl) rfl hl.1 rfl (Nat.le_of_ble_eq_true rfl) dX1_look_19 ⟨Nat.le_of_ble_eq_true rfl, Nat.le_of_ble_eq_true rfl⟩ (fun H locs hP hS => ?_)
      refine lv_istore_n (lv' := [(3, zk_I v3), (0, .ref o), (1, zk_I p1), (2, zk_I p2)]) hx hb dX1_look_22 rfl hl (by decide) rfl (fun ls hl => ?_)
      refine zk_iloadn hx hb dX1_look_23 rfl (lv_at hl 0 rfl) ?_
      refine zk_if_eq (tgt := 29) hx hb dX1_look_24 (by decide) hf (fun h => h) (fun hf => ?_) (fun hf => ?_)
      · refine lv_aload_n hx hb dX1_look_29 rfl (lv_at hl 1 rfl) ?_
        refine zk_iloadn hx hb dX1_look_30 rfl (lv_at hl 2 rfl) ?_
        refine zk_iloadn hx hb dX1_look_31 rfl (lv_at hl 3 rfl) ?_
        obtain ⟨v5, s6, hq, hf⟩ := zk_b2s hf
        refine zk_callVW (As := [zk_I p1, zk_I p2]) (rest := []) ⟨hx, hb, hml, hown, hts⟩ (zw_X1_daringsBy l hD N p1 p2 s4 _ _ hq) (cwV 2 hts (lw_V q1275 q1277 qs70 q88 q1278) rfl rfl rfl (by decide +kernel) ⟨Nat.le_of_ble_eq_true rfl, Nat.le_of_ble_eq_true rfl⟩) hKX hP hS (va_recv hK hP (ci := 1) (q0 := 0) rfl rfl) rfl hl.1 rfl (Nat.le_of_ble_eq_true rfl) dX1_look_32 ⟨Nat.le_of_ble_eq_true rfl, Nat.le_of_ble_eq_true rfl⟩ (fun H locs hP hS => ?_)
        refine lv_istore (lv' := [(4, zk_I v5), (3, zk_I v3), (0, .ref o), (1, zk_I p1), (2, zk_I p2)]) hx hb dX1_look_35 hl (by decide) rfl (fun ls hl => ?_)
        refine zk_iload hx hb dX1_look_37 (lv_at hl 0 rfl) ?_
        refine zk_if_ne (tgt := 45) hx hb dX1_look_39 (by decide) hf (fun h => h) (fun hf => ?_) (fun hf => ?_)
        · refine lv_aload_n hx hb dX1_look_45 rfl (lv_at hl 2 rfl) ?_
          refine zk_iloadn hx hb dX1_look_46 rfl (lv_at hl 3 rfl) ?_
          refine zk_iload hx hb dX1_look_47 (lv_at hl 0 rfl) ?_
          obtain ⟨v7, s8, hq, hf⟩ := zk_b2s hf
          refine zk_callVW (As := [zk_I p1, zk_I v5]) (rest := []) ⟨hx, hb, hml, hown, hts⟩ (zw_X1_layParts l hD N p1 v5 s6 _ _ hq) (cwV 2 hts (lw_V q1291 q1293 qs72 q88 q1294) rfl rfl rfl (by decide +kernel) ⟨Nat.le_of_ble_eq_true rfl, Nat.le_of_ble_eq_true rfl⟩) hKX hP hS (va_recv hK hP (ci := 1) (q0 := 0) rfl rfl) rfl hl.1 rfl (Nat.le_of_ble_eq_true rfl) dX1_look_49 ⟨Nat.le_of_ble_eq_true rfl, Nat.le_of_ble_eq_true rfl⟩ (fun H locs hP hS => ?_)
          refine zk_bipush hx hb dX1_look_52 (by decide) ?_
          refine lv_istore (lv' := [(5, zk_I (-9)), (4, zk_I v5), (3, zk_I v3), (0, .ref o), (1, zk_I p1), (2, zk_I p2)]) hx hb dX1_look_54 hl (by decide) rfl (fun ls hl => ?_)
          refine zk_ldc hx hb 99999 hown (hts _ q1253) rfl dX1_look_56 ?_
          refine lv_istore (lv' := [(6, zk_I 99999), (5, zk_I (-9)), (4, zk_I v5), (3, zk_I v3), (0, .ref o), (1, zk_I p1), (2, zk_I p2)]) hx hb dX1_look_58 hl (by decide) rfl (fun ls hl => ?_)
          refine zk_iconst hx hb dX1_look_60 ?_
          refine lv_istore (lv' := [(7, zk_I 1), (6, zk_I 99999), (5, zk_I (-9)), (4, zk_I v5), (3, zk_I v3), (0, .ref o), (1, zk_I p1), (2, zk_I p2)]) hx hb dX1_look_61 hl (by decide) rfl (fun ls hl => ?_)
          exact hL63 N _ _ _ _ H locs ls hf (lv_sub hl [5, 2, 1, 0] rfl) hP hS
        · refine zk_bipush hx hb dX1_look_42 (by decide) ?_
          exact zk_iret hx hb hr hlk (zk_p1 hf) (zk_pB hf hP) hS dX1_look_44
      · refine zk_iloadn hx hb dX1_look_27 rfl (lv_at hl 0 rfl) ?_
        exact zk_iret hx hb hr hlk (zk_p1 hf) (zk_pB hf hP) hS dX1_look_28
    · refine zk_iconst hx hb dX1_look_15 ?_
      exact zk_iret hx hb hr hlk (zk_p1 hf) (zk_pB hf hP) hS dX1_look_16
abbrev zw_X1_noSets_rm : Room := { frames := 2, cells := 0, slots := 0, locals := 57 }
abbrev zw_X1_noSets_vs (o : Nat) (p1 : Int) : List Value := [.ref o, zk_I p1]
set_option maxHeartbeats 4000000 in
set_option maxRecDepth 100000 in
theorem zw_X1_noSets (l : Launch) {D : va_G} {o : Nat} {a : Nat → Nat} {dA : Nat → ClassId} (p1 : Int) (σ : ZS) (r : Int) (hf : zm_noSets p1 σ = some r) : zk_MR l yX1_noSets (ws_ yX1_noSets cX1_noSets 2 (Option.some Jvm.ClassFile.FieldType.int)) zw_X1_noSets_rm D zk_cl (zk_ty dA) (zw_X1_noSets_vs o p1) (zm_P o a dA σ) (some (zk_I r)) := by
  refine zk_startW (by decide +kernel) (Nat.le_of_ble_eq_true rfl) (fun p e s m below meth c H locs ls hx hb hr hlk hml hown hts hKX hP hS hl => ?_)
  have hl : lv_has ls 2 [(0, .ref o), (1, zk_I p1)] := hl
  have hK := hKX.1
  have hown : s.vm.findClass RX1 = some m.cls := hown
  have hf : zm_noSets p1 σ = some r := hf
  refine zk_iloadn hx hb dX1_noSets_0 rfl (lv_at hl 1 rfl) ?_
  refine zk_ri2l hx hb dX1_noSets_1 hf (fun hf => ?_)
  refine zk_lconst (v := 0) hx hb dX1_noSets_2 rfl ?_
  refine zk_ldc2 hx hb 120 hown (hts _ q1307) rfl dX1_noSets_3 ?_
  obtain ⟨v1, hq, hf⟩ := zk_bs hf
  refine zk_callSS (As := [zk_L p1, zk_L 0, zk_L 120]) (rest := []) ⟨hx, hb, hml, hown, hts⟩ (zw_X1_in l p1 0 120 _ hq) (va_cwS 3 hts (lw_S q1027 q1028 q88 q1029) rfl rfl rfl (by decide +kernel) ⟨Nat.le_of_ble_eq_true rfl, Nat.le_of_ble_eq_true rfl⟩) hP hS rfl hl.1 rfl (Nat.le_of_ble_eq_true rfl) dX1_noSets_6 ⟨Nat.le_of_ble_eq_true rfl, Nat.le_of_ble_eq_true rfl⟩ (fun H locs hP hS => ?_)
  refine zk_if_ne (tgt := 16) hx hb dX1_noSets_9 (by decide) hf (fun h => h) (fun hf => ?_) (fun hf => ?_)
  · refine lv_aload_n hx hb dX1_noSets_16 rfl (lv_at hl 0 rfl) ?_
    refine zm_rget hx hb hts hown hK hP 1 (by decide) q950 rfl dX1_noSets_17 ?_
    refine zk_if_ne (tgt := 28) hx hb dX1_noSets_20 (by decide) hf (fun h => h) (fun hf => ?_) (fun hf => ?_)
    · refine zk_iconst hx hb dX1_noSets_28 ?_
      exact zk_iret hx hb hr hlk (Option.some.inj hf) (fun _ _ => trivial) hS dX1_noSets_29
    · refine zk_bipush hx hb dX1_noSets_23 (by decide) ?_
      refine lv_goto (tgt := 29) hx hb dX1_noSets_25 (by decide) ?_
      exact zk_iret hx hb hr hlk (Option.some.inj hf) (fun _ _ => trivial) hS dX1_noSets_29
  · refine zk_iconst hx hb dX1_noSets_12 ?_
    refine lv_goto (tgt := 29) hx hb dX1_noSets_13 (by decide) ?_
    exact zk_iret hx hb hr hlk (Option.some.inj hf) (fun _ _ => trivial) hS dX1_noSets_29
abbrev zw_X1_daringOf_rm : Room := { frames := 2, cells := 0, slots := 0, locals := 53 }
abbrev zw_X1_daringOf_vs (o : Nat) (p1 : Int) : List Value := [.ref o, zk_I p1]
set_option maxHeartbeats 4000000 in
set_option maxRecDepth 100000 in
theorem zw_X1_daringOf (l : Launch) {D : va_G} {o : Nat} {a : Nat → Nat} {dA : Nat → ClassId} (N : Nat) (p1 : Int) (σ : ZS) (r : Int) (hf : zm_daringOf N p1 σ = some r) : zk_MR l yX1_daringOf (ws_ yX1_daringOf cX1_daringOf 4 (Option.some Jvm.ClassFile.FieldType.int)) zw_X1_daringOf_rm D zk_cl (zk_ty dA) (zw_X1_daringOf_vs o p1) (zm_P o a dA σ) (some (zk_I r)) := by
  refine zk_startW (by decide +kernel) (Nat.le_of_ble_eq_true rfl) (fun p e s m below meth c H locs ls hx hb hr hlk hml hown hts hKX hP hS hl => ?_)
  have hl : lv_has ls 4 [(0, .ref o), (1, zk_I p1)] := hl
  have hK := hKX.1
  have hown : s.vm.findClass RX1 = some m.cls := hown
  have hf : zm_daringOf N p1 σ = some r := hf
  have hJ42 : ∀ (x2 : Int) (H : Heap) (locs : List Loc) (ls : Array Slot), zm_daringOf_j42 N x2 σ = some r → lv_has ls 4 [(2, zk_I x2)] → va_P D zk_cl (zm_P o a dA σ) H → va_S (fun _ => False) s.heap H locs → W p l e zw_X1_daringOf_rm s m (zw_X1_daringOf_vs o p1).toArray below meth c H locs 0 0 (MQ below (zk_Q (some (zk_I r)) (fun _ => True) (fun _ => False)) (zw_X1_daringOf_vs o p1).toArray s 0 0 (fun _ => False)) (F0 m 42 ls []) := by
    intro x2 H locs ls hf hl hP hS
    refine zk_iloadn hx hb dX1_daringOf_42 rfl (lv_at hl 0 rfl) ?_
    exact zk_iret hx hb hr hlk (Option.some.inj hf) (fun _ _ => trivial) hS dX1_daringOf_43
  have hL4 : ∀ (n : Nat) (x1 x2 x3 : Int) (H : Heap) (locs : List Loc) (ls : Array Slot), zk_b (zk_loop (α := Int × Int) (β := Int) n (fun a => zm_daringOf_b4 N x1 a.1 a.2 σ) (x2, x3)) (fun e => zm_daringOf_j42 N e σ) = some r → lv_has ls 4 [(0, .ref o), (1, zk_I x1), (2, zk_I x2), (3, zk_I x3)] → va_P D zk_cl (zm_P o a dA σ) H → va_S (fun _ => False) s.heap H locs → W p l e zw_X1_daringOf_rm s m (zw_X1_daringOf_vs o p1).toArray below meth c H locs 0 0 (MQ below (zk_Q (some (zk_I r)) (fun _ => True) (fun _ => False)) (zw_X1_daringOf_vs o p1).toArray s 0 0 (fun _ => False)) (F0 m 4 ls []) := by
    intro n
    induction n with
    | zero => intro x1 x2 x3 H locs ls hf; exact (zk_l0 hf).elim
    | succ n ih4 =>
      intro x1 x2 x3 H locs ls hf hl hP hS
      obtain ⟨c4, hf, hc4⟩ := zk_ls hf
      have hJ34 : ∀ (x3 y0 y1 : Int) (H : Heap) (locs : List Loc) (ls : Array Slot), zm_daringOf_j34 N x1 x3 y0 y1 σ = some c4 → lv_has ls 4 [(0, .ref o), (1, zk_I x1), (3, zk_I x3)] → va_P D zk_cl (zm_P o a dA σ) H → va_S (fun _ => False) s.heap H locs → W p l e zw_X1_daringOf_rm s m (zw_X1_daringOf_vs o p1).toArray below meth c H locs 0 0 (MQ below (zk_Q (some (zk_I r)) (fun _ => True) (fun _ => False)) (zw_X1_daringOf_vs o p1).toArray s 0 0 (fun _ => False)) (F0 m 34 ls [zk_I y1, zk_I y0]) := by
        intro x3 y0 y1 H locs ls hf hl hP hS
        refine zk_iadd hx hb dX1_daringOf_34 ?_
        refine zk_istorenN (lv' := fun x2_2 => [(2, zk_I x2_2), (0, .ref o), (1, zk_I x1), (3, zk_I x3)]) hx hb dX1_daringOf_35 rfl hl (by decide) (fun _ => rfl) hf (fun x2_2 hf ls hl => ?_)
        refine zk_iincN (lv' := fun x3_3 => [(3, zk_I x3_3), (2, zk_I x2_2), (0, .ref o), (1, zk_I x1)]) hx hb dX1_daringOf_36 hl (k := 3) rfl (by decide) (fun _ => rfl) hf (fun x3_3 hf ls hl => ?_)
        refine lv_goto (tgt := 4) hx hb dX1_daringOf_39 (by decide) ?_
        obtain rfl := zk_so hf
        exact ih4 _ _ _ H locs ls hc4 (lv_sub hl [2, 3, 1, 0] rfl) hP hS
      refine zk_iloadn hx hb dX1_daringOf_4 rfl (lv_at hl 3 rfl) ?_
      refine lv_aload_n hx hb dX1_daringOf_5 rfl (lv_at hl 0 rfl) ?_
      refine zm_rget hx hb hts hown hK hP 1 (by decide) q950 rfl dX1_daringOf_6 ?_
      refine zk_icmp_ge (tgt := 42) hx hb dX1_daringOf_9 (by decide) hf (fun h => h) (fun hf => ?_) (fun hf => ?_)
      · obtain rfl := zk_so hf
        exact hJ42 _ H locs ls hc4 (lv_sub hl [2] rfl) hP hS
      · refine zk_iloadn hx hb dX1_daringOf_12 rfl (lv_at hl 2 rfl) ?_
        refine zk_iloadn hx hb dX1_daringOf_13 rfl (lv_at hl 1 rfl) ?_
        refine zk_iloadn hx hb dX1_daringOf_14 rfl (lv_at hl 3 rfl) ?_
        obtain ⟨v1, hq, hf⟩ := zk_bs hf
        refine zk_callSS (As := [zk_I x1, zk_I x3]) (rest := [zk_I x2]) ⟨hx, hb, hml, hown, hts⟩ (zw_X1_has l x1 x3 _ hq) (va_cwS 2 hts (lw_S q1177 q1178 q88 q1179) rfl rfl rfl (by decide +kernel) ⟨Nat.le_of_ble_eq_true rfl, Nat.le_of_ble_eq_true rfl⟩) hP hS rfl hl.1 rfl (Nat.le_of_ble_eq_true rfl) dX1_daringOf_15 ⟨Nat.le_of_ble_eq_true rfl, Nat.le_of_ble_eq_true rfl⟩ (fun H locs hP hS => ?_)
        refine zk_if_eq (tgt := 33) hx hb dX1_daringOf_18 (by decide) hf (fun h => h) (fun hf => ?_) (fun hf => ?_)
        · refine zk_iconst hx hb dX1_daringOf_33 ?_
          exact hJ34 _ _ _ H locs ls hf (lv_sub hl [0, 1, 3] rfl) hP hS
        · refine lv_aload_n hx hb dX1_daringOf_21 rfl (lv_at hl 0 rfl) ?_
          refine zm_rget hx hb hts hown hK hP 0 (by decide) q949 rfl dX1_daringOf_22 ?_
          refine zk_bipush hx hb dX1_daringOf_25 (by decide) ?_
          refine zk_iloadn hx hb dX1_daringOf_27 rfl (lv_at hl 3 rfl) ?_
          refine zk_iadd hx hb dX1_daringOf_28 ?_
          refine zk_iald hx hb hK hP 1 0 rfl rfl (N := 3305) ⟨by decide, by decide⟩ hf dX1_daringOf_29 (fun hf => ?_)
          refine lv_goto (tgt := 34) hx hb dX1_daringOf_30 (by decide) ?_
          exact hJ34 _ _ _ H locs ls hf (lv_sub hl [0, 1, 3] rfl) hP hS
  refine zk_iconst hx hb dX1_daringOf_0 ?_
  refine lv_istore_n (lv' := [(2, zk_I 0), (0, .ref o), (1, zk_I p1)]) hx hb dX1_daringOf_1 rfl hl (by decide) rfl (fun ls hl => ?_)
  refine zk_iconst hx hb dX1_daringOf_2 ?_
  refine lv_istore_n (lv' := [(3, zk_I 0), (2, zk_I 0), (0, .ref o), (1, zk_I p1)]) hx hb dX1_daringOf_3 rfl hl (by decide) rfl (fun ls hl => ?_)
  exact hL4 N _ _ _ H locs ls hf (lv_sub hl [2, 3, 1, 0] rfl) hP hS
abbrev zw_X1_sets_rm : Room := { frames := 3, cells := 0, slots := 0, locals := 78 }
abbrev zw_X1_sets_vs (o : Nat) (p1 : Int) : List Value := [.ref o, zk_I p1]
set_option maxHeartbeats 4000000 in
set_option maxRecDepth 100000 in
theorem zw_X1_sets (l : Launch) {D : va_G} {o : Nat} {a : Nat → Nat} {dA : Nat → ClassId} {A : Nat → Prop} (hD : ∀ τ, va_D A (zm_P o a dA τ)) (N : Nat) (p1 : Int) (σ : ZS) (r : Int) (σ' : ZS) (hf : zm_sets N p1 σ = some (r, σ')) : zk_MW l yX1_sets (ws_ yX1_sets cX1_sets 6 (Option.some Jvm.ClassFile.FieldType.int)) zw_X1_sets_rm D zk_cl (zk_ty dA) A (zw_X1_sets_vs o p1) (zm_P o a dA σ) (zm_P o a dA σ') (some (zk_I r)) := by
  refine zk_startW (by decide +kernel) (Nat.le_of_ble_eq_true rfl) (fun p e s m below meth c H locs ls hx hb hr hlk hml hown hts hKX hP hS hl => ?_)
  have hl : lv_has ls 6 [(0, .ref o), (1, zk_I p1)] := hl
  have hK := hKX.1
  have hown : s.vm.findClass RX1 = some m.cls := hown
  have hf : zm_sets N p1 σ = some (r, σ') := hf
  have hJ89 : ∀ (x3 : Int) (s0 : ZS) (H : Heap) (locs : List Loc) (ls : Array Slot), zm_sets_j89 N x3 s0 = some (r, σ') → lv_has ls 6 [(0, .ref o), (3, zk_I x3)] → va_P D zk_cl (zm_P o a dA s0) H → va_S A s.heap H locs → W p l e zw_X1_sets_rm s m (zw_X1_sets_vs o p1).toArray below meth c H locs 0 0 (MQ below (zk_Q (some (zk_I r)) (fun t => va_P D zk_cl (zm_P o a dA σ') t.heap) A) (zw_X1_sets_vs o p1).toArray s 0 0 A) (F0 m 89 ls []) := by
    intro x3 s0 H locs ls hf hl hP hS
    refine lv_aload_n hx hb dX1_sets_89 rfl (lv_at hl 0 rfl) ?_
    refine zk_iloadn hx hb dX1_sets_90 rfl (lv_at hl 1 rfl) ?_
    refine zk_ri2l hx hb dX1_sets_91 hf (fun hf => ?_)
    refine zm_rput hx hb hts hown hK hP hD hS 8 (by decide) q957 rfl rfl rfl (zm_s8 _ _) hf dX1_sets_92 (fun s9 H locs hf hP hS => ?_)
    refine lv_aload_n hx hb dX1_sets_95 rfl (lv_at hl 0 rfl) ?_
    refine zk_lconst (v := 1) hx hb dX1_sets_96 rfl ?_
    refine zm_rput hx hb hts hown hK hP hD hS 9 (by decide) q958 rfl rfl rfl (zm_s9 _ _) hf dX1_sets_97 (fun s10 H locs hf hP hS => ?_)
    refine zk_iconst hx hb dX1_sets_100 ?_
    exact zk_iret hx hb hr hlk (zk_p1 hf) (zk_pB hf hP) hS dX1_sets_101
  have hL30 : ∀ (n : Nat) (x1 x3 x4 : Int) (s0 : ZS) (H : Heap) (locs : List Loc) (ls : Array Slot), zk_b (zk_loop (α := Int × Int × ZS) (β := Int × ZS) n (fun a => zm_sets_b30 N x1 a.1 a.2.1 a.2.2) (x3, x4, s0)) (fun e => zm_sets_j89 N e.1 e.2) = some (r, σ') → lv_has ls 6 [(0, .ref o), (1, zk_I x1), (3, zk_I x3), (4, zk_I x4)] → va_P D zk_cl (zm_P o a dA s0) H → va_S A s.heap H locs → W p l e zw_X1_sets_rm s m (zw_X1_sets_vs o p1).toArray below meth c H locs 0 0 (MQ below (zk_Q (some (zk_I r)) (fun t => va_P D zk_cl (zm_P o a dA σ') t.heap) A) (zw_X1_sets_vs o p1).toArray s 0 0 A) (F0 m 30 ls []) := by
    intro n
    induction n with
    | zero => intro x1 x3 x4 s0 H locs ls hf; exact (zk_l0 hf).elim
    | succ n ih30 =>
      intro x1 x3 x4 s0 H locs ls hf hl hP hS
      obtain ⟨c30, hf, hc30⟩ := zk_ls hf
      have hJ80 : ∀ (x3 x4 y0 : Int) (s0 : ZS) (H : Heap) (locs : List Loc) (ls : Array Slot), zm_sets_j80 N x1 x3 x4 y0 s0 = some c30 → lv_has ls 6 [(0, .ref o), (1, zk_I x1), (3, zk_I x3), (4, zk_I x4)] → va_P D zk_cl (zm_P o a dA s0) H → va_S A s.heap H locs → W p l e zw_X1_sets_rm s m (zw_X1_sets_vs o p1).toArray below meth c H locs 0 0 (MQ below (zk_Q (some (zk_I r)) (fun t => va_P D zk_cl (zm_P o a dA σ') t.heap) A) (zw_X1_sets_vs o p1).toArray s 0 0 A) (F0 m 80 ls [zk_I y0, .ref o]) := by
        intro x3 x4 y0 s0 H locs ls hf hl hP hS
        refine zm_rput hx hb hts hown hK hP hD hS 7 (by decide) q956 rfl rfl rfl (zm_s7 _ _) hf dX1_sets_80 (fun s7 H locs hf hP hS => ?_)
        refine zk_iincN (lv' := fun x4_8 => [(4, zk_I x4_8), (0, .ref o), (1, zk_I x1), (3, zk_I x3)]) hx hb dX1_sets_83 hl (k := 3) rfl (by decide) (fun _ => rfl) hf (fun x4_8 hf ls hl => ?_)
        refine lv_goto (tgt := 30) hx hb dX1_sets_86 (by decide) ?_
        obtain rfl := zk_so hf
        exact ih30 _ _ _ _ H locs ls hc30 (lv_sub hl [1, 2, 3, 0] rfl) hP hS
      refine zk_iload hx hb dX1_sets_30 (lv_at hl 3 rfl) ?_
      refine zk_if_lt (tgt := 89) hx hb dX1_sets_32 (by decide) hf (fun h => h) (fun hf => ?_) (fun hf => ?_)
      · obtain rfl := zk_so hf
        exact hJ89 _ _ H locs ls hc30 (lv_sub hl [0, 2] rfl) hP hS
      · refine lv_aload_n hx hb dX1_sets_35 rfl (lv_at hl 0 rfl) ?_
        refine zk_iload hx hb dX1_sets_36 (lv_at hl 3 rfl) ?_
        obtain ⟨v4, hq, hf⟩ := zk_bs hf
        refine zk_callVR (As := [zk_I x4]) (rest := []) ⟨hx, hb, hml, hown, hts⟩ (zw_X1_daringOf l N x4 s0 _ hq) (cwV 1 hts (lw_V q1308 q1310 qs75 q88 q1311) rfl rfl rfl (by decide +kernel) ⟨Nat.le_of_ble_eq_true rfl, Nat.le_of_ble_eq_true rfl⟩) hKX hP hS (va_recv hK hP (ci := 1) (q0 := 0) rfl rfl) rfl hl.1 rfl (Nat.le_of_ble_eq_true rfl) dX1_sets_38 ⟨Nat.le_of_ble_eq_true rfl, Nat.le_of_ble_eq_true rfl⟩ (fun H locs hP hS => ?_)
        refine zk_iloadn hx hb dX1_sets_41 rfl (lv_at hl 1 rfl) ?_
        obtain ⟨hg, hf⟩ := zk_gs hf
        have hV : W p l e zw_X1_sets_rm s m (zw_X1_sets_vs o p1).toArray below meth c H locs 0 0 (MQ below (zk_Q (some (zk_I r)) (fun t => va_P D zk_cl (zm_P o a dA σ') t.heap) A) (zw_X1_sets_vs o p1).toArray s 0 0 A) (F0 m 50 ls [zk_I (if v4 = x1 then 1 else 0)]) := by
          refine zk_istoreN (lv' := fun x5_5 => [(5, zk_I x5_5), (0, .ref o), (1, zk_I x1), (3, zk_I x3), (4, zk_I x4)]) hx hb dX1_sets_50 hl (by decide) (fun _ => rfl) hf (fun x5_5 hf ls hl => ?_)
          refine zk_iloadn hx hb dX1_sets_52 rfl (lv_at hl 3 rfl) ?_
          refine zk_iload hx hb dX1_sets_53 (lv_at hl 0 rfl) ?_
          obtain ⟨hg, hf⟩ := zk_gs hf
          have hV : W p l e zw_X1_sets_rm s m (zw_X1_sets_vs o p1).toArray below meth c H locs 0 0 (MQ below (zk_Q (some (zk_I r)) (fun t => va_P D zk_cl (zm_P o a dA σ') t.heap) A) (zw_X1_sets_vs o p1).toArray s 0 0 A) (F0 m 63 ls [zk_I (if x5_5 = 0 then 0 else 1), zk_I x3]) := by
            refine zk_iadd hx hb dX1_sets_63 ?_
            refine zk_istorenN (lv' := fun x3_6 => [(3, zk_I x3_6), (5, zk_I x5_5), (0, .ref o), (1, zk_I x1), (4, zk_I x4)]) hx hb dX1_sets_64 rfl hl (by decide) (fun _ => rfl) hf (fun x3_6 hf ls hl => ?_)
            refine lv_aload_n hx hb dX1_sets_65 rfl (lv_at hl 2 rfl) ?_
            refine zk_iload hx hb dX1_sets_66 (lv_at hl 1 rfl) ?_
            refine zk_if_eq (tgt := 76) hx hb dX1_sets_68 (by decide) hf (fun h => h) (fun hf => ?_) (fun hf => ?_)
            · refine lv_aload_n hx hb dX1_sets_76 rfl (lv_at hl 2 rfl) ?_
              refine zm_rget hx hb hts hown hK hP 7 (by decide) q956 rfl dX1_sets_77 ?_
              exact hJ80 _ _ _ _ H locs ls hf (lv_sub hl [2, 3, 0, 4] rfl) hP hS
            · refine zk_iload hx hb dX1_sets_71 (lv_at hl 4 rfl) ?_
              refine lv_goto (tgt := 80) hx hb dX1_sets_73 (by decide) ?_
              exact hJ80 _ _ _ _ H locs ls hf (lv_sub hl [2, 3, 0, 4] rfl) hP hS
          refine zk_if_eqV (tgt := 62) hx hb dX1_sets_55 (by decide) ((fun h => h) hg) (fun hc => ?_) (fun hc => ?_)
          · rw [if_pos hc] at hV
            refine zk_iconst hx hb dX1_sets_62 ?_
            exact hV
          · rw [if_neg hc] at hV
            refine zk_iconst hx hb dX1_sets_58 ?_
            refine lv_goto (tgt := 63) hx hb dX1_sets_59 (by decide) ?_
            exact hV
        refine zk_icmp_neV (tgt := 49) hx hb dX1_sets_42 (by decide) ((fun h => h) hg) (fun hc => ?_) (fun hc => ?_)
        · rw [if_neg hc] at hV
          refine zk_iconst hx hb dX1_sets_49 ?_
          exact hV
        · rw [if_pos hc] at hV
          refine zk_iconst hx hb dX1_sets_45 ?_
          refine lv_goto (tgt := 50) hx hb dX1_sets_46 (by decide) ?_
          exact hV
  refine lv_aload_n hx hb dX1_sets_0 rfl (lv_at hl 0 rfl) ?_
  refine zk_iloadn hx hb dX1_sets_1 rfl (lv_at hl 1 rfl) ?_
  obtain ⟨v1, hq, hf⟩ := zk_bs hf
  refine zk_callVR (As := [zk_I p1]) (rest := []) ⟨hx, hb, hml, hown, hts⟩ (zw_X1_noSets l p1 σ _ hq) (cwV 1 hts (lw_V q1303 q1305 qs74 q88 q1306) rfl rfl rfl (by decide +kernel) ⟨Nat.le_of_ble_eq_true rfl, Nat.le_of_ble_eq_true rfl⟩) hKX hP hS (va_recv hK hP (ci := 1) (q0 := 0) rfl rfl) rfl hl.1 rfl (Nat.le_of_ble_eq_true rfl) dX1_sets_2 ⟨Nat.le_of_ble_eq_true rfl, Nat.le_of_ble_eq_true rfl⟩ (fun H locs hP hS => ?_)
  refine lv_istore_n (lv' := [(2, zk_I v1), (0, .ref o), (1, zk_I p1)]) hx hb dX1_sets_5 rfl hl (by decide) rfl (fun ls hl => ?_)
  refine zk_iloadn hx hb dX1_sets_6 rfl (lv_at hl 0 rfl) ?_
  refine zk_if_eq (tgt := 12) hx hb dX1_sets_7 (by decide) hf (fun h => h) (fun hf => ?_) (fun hf => ?_)
  · refine zk_iconst hx hb dX1_sets_12 ?_
    refine lv_istore_n (lv' := [(3, zk_I 0), (2, zk_I v1), (0, .ref o), (1, zk_I p1)]) hx hb dX1_sets_13 rfl hl (by decide) rfl (fun ls hl => ?_)
    refine lv_aload_n hx hb dX1_sets_14 rfl (lv_at hl 2 rfl) ?_
    refine zk_bipush hx hb dX1_sets_15 (by decide) ?_
    refine zm_rput hx hb hts hown hK hP hD hS 7 (by decide) q956 rfl rfl rfl (zm_s7 _ _) hf dX1_sets_17 (fun s2 H locs hf hP hS => ?_)
    refine zk_iconst hx hb dX1_sets_20 ?_
    refine lv_aload_n hx hb dX1_sets_21 rfl (lv_at hl 2 rfl) ?_
    refine zm_rget hx hb hts hown hK hP 1 (by decide) q950 rfl dX1_sets_22 ?_
    refine zk_rishl hx hb dX1_sets_25 hf (fun hf => ?_)
    refine zk_iconst hx hb dX1_sets_26 ?_
    refine zk_isub hx hb dX1_sets_27 ?_
    refine zk_istoreN (lv' := fun x4_3 => [(4, zk_I x4_3), (3, zk_I 0), (2, zk_I v1), (0, .ref o), (1, zk_I p1)]) hx hb dX1_sets_28 hl (by decide) (fun _ => rfl) hf (fun x4_3 hf ls hl => ?_)
    exact hL30 N _ _ _ _ H locs ls hf (lv_sub hl [3, 4, 1, 0] rfl) hP hS
  · refine zk_iloadn hx hb dX1_sets_10 rfl (lv_at hl 0 rfl) ?_
    exact zk_iret hx hb hr hlk (zk_p1 hf) (zk_pB hf hP) hS dX1_sets_11
abbrev zw_X1_sure_rm : Room := { frames := 3, cells := 0, slots := 0, locals := 78 }
abbrev zw_X1_sure_vs (o : Nat) (p1 : Int) : List Value := [.ref o, zk_I p1]
set_option maxHeartbeats 4000000 in
set_option maxRecDepth 100000 in
theorem zw_X1_sure (l : Launch) {D : va_G} {o : Nat} {a : Nat → Nat} {dA : Nat → ClassId} {A : Nat → Prop} (hD : ∀ τ, va_D A (zm_P o a dA τ)) (N : Nat) (p1 : Int) (σ : ZS) (r : Int) (σ' : ZS) (hf : zm_sure N p1 σ = some (r, σ')) : zk_MW l yX1_sure (ws_ yX1_sure cX1_sure 8 (Option.some Jvm.ClassFile.FieldType.int)) zw_X1_sure_rm D zk_cl (zk_ty dA) A (zw_X1_sure_vs o p1) (zm_P o a dA σ) (zm_P o a dA σ') (some (zk_I r)) := by
  refine zk_startW (by decide +kernel) (Nat.le_of_ble_eq_true rfl) (fun p e s m below meth c H locs ls hx hb hr hlk hml hown hts hKX hP hS hl => ?_)
  have hl : lv_has ls 8 [(0, .ref o), (1, zk_I p1)] := hl
  have hK := hKX.1
  have hown : s.vm.findClass RX1 = some m.cls := hown
  have hf : zm_sure N p1 σ = some (r, σ') := hf
  have hJ72 : ∀ (x3 x4 x5 x6 : Int) (s0 : ZS) (H : Heap) (locs : List Loc) (ls : Array Slot), zm_sure_j72 N x3 x4 x5 x6 s0 = some (r, σ') → lv_has ls 8 [(0, .ref o), (3, zk_I x3), (4, zk_I x4), (5, zk_I x5), (6, zk_I x6)] → va_P D zk_cl (zm_P o a dA s0) H → va_S A s.heap H locs → W p l e zw_X1_sure_rm s m (zw_X1_sure_vs o p1).toArray below meth c H locs 0 0 (MQ below (zk_Q (some (zk_I r)) (fun t => va_P D zk_cl (zm_P o a dA σ') t.heap) A) (zw_X1_sure_vs o p1).toArray s 0 0 A) (F0 m 72 ls []) := by
    intro x3 x4 x5 x6 s0 H locs ls hf hl hP hS
    refine zk_iload hx hb dX1_sure_72 (lv_at hl 4 rfl) ?_
    refine zk_if_ne (tgt := 83) hx hb dX1_sure_74 (by decide) hf (fun h => h) (fun hf => ?_) (fun hf => ?_)
    · refine lv_aload_n hx hb dX1_sure_83 rfl (lv_at hl 0 rfl) ?_
      refine zk_iloadn hx hb dX1_sure_84 rfl (lv_at hl 1 rfl) ?_
      refine zk_iload hx hb dX1_sure_85 (lv_at hl 3 rfl) ?_
      refine zk_iconst hx hb dX1_sure_87 ?_
      refine zk_rixor hx hb dX1_sure_88 ?_
      refine zk_riand hx hb dX1_sure_89 ?_
      refine zm_rput hx hb hts hown hK hP hD hS 7 (by decide) q956 rfl rfl rfl (zm_s7 _ _) hf dX1_sure_90 (fun s7 H locs hf hP hS => ?_)
      refine zk_iload hx hb dX1_sure_93 (lv_at hl 2 rfl) ?_
      exact zk_iret hx hb hr hlk (zk_p1 hf) (zk_pB hf hP) hS dX1_sure_95
    · refine lv_aload_n hx hb dX1_sure_77 rfl (lv_at hl 0 rfl) ?_
      refine zk_iconst hx hb dX1_sure_78 ?_
      obtain ⟨v8, s9, hq, hf⟩ := zk_b2s hf
      refine zk_callVW (As := [zk_I 4]) (rest := []) ⟨hx, hb, hml, hown, hts⟩ (zw_X1_find l hD 4 s0 _ _ hq) (cwV 1 hts (lw_V q1030 q1032 qs40 q88 q1033) rfl rfl rfl (by decide +kernel) ⟨Nat.le_of_ble_eq_true rfl, Nat.le_of_ble_eq_true rfl⟩) hKX hP hS (va_recv hK hP (ci := 1) (q0 := 0) rfl rfl) rfl hl.1 rfl (Nat.le_of_ble_eq_true rfl) dX1_sure_79 ⟨Nat.le_of_ble_eq_true rfl, Nat.le_of_ble_eq_true rfl⟩ (fun H locs hP hS => ?_)
      exact zk_iret hx hb hr hlk (zk_p1 hf) (zk_pB hf hP) hS dX1_sure_82
  have hL33 : ∀ (n : Nat) (x1 x3 x4 x5 x6 x7 : Int) (s0 : ZS) (H : Heap) (locs : List Loc) (ls : Array Slot), zk_b (zk_loop (α := Int × Int × Int × Int) (β := Int × Int × Int) n (fun a => zm_sure_b33 N x1 x3 a.1 a.2.1 a.2.2.1 a.2.2.2 s0) (x4, x5, x6, x7)) (fun e => zm_sure_j72 N x3 e.1 e.2.1 e.2.2 s0) = some (r, σ') → lv_has ls 8 [(0, .ref o), (1, zk_I x1), (3, zk_I x3), (4, zk_I x4), (5, zk_I x5), (6, zk_I x6), (7, zk_I x7)] → va_P D zk_cl (zm_P o a dA s0) H → va_S A s.heap H locs → W p l e zw_X1_sure_rm s m (zw_X1_sure_vs o p1).toArray below meth c H locs 0 0 (MQ below (zk_Q (some (zk_I r)) (fun t => va_P D zk_cl (zm_P o a dA σ') t.heap) A) (zw_X1_sure_vs o p1).toArray s 0 0 A) (F0 m 33 ls []) := by
    intro n
    induction n with
    | zero => intro x1 x3 x4 x5 x6 x7 s0 H locs ls hf; exact (zk_l0 hf).elim
    | succ n ih33 =>
      intro x1 x3 x4 x5 x6 x7 s0 H locs ls hf hl hP hS
      obtain ⟨c33, hf, hc33⟩ := zk_ls hf
      have hJ66 : ∀ (x4 x5 x6 x7 : Int) (H : Heap) (locs : List Loc) (ls : Array Slot), zm_sure_j66 N x1 x3 x4 x5 x6 x7 s0 = some c33 → lv_has ls 8 [(0, .ref o), (1, zk_I x1), (3, zk_I x3), (4, zk_I x4), (5, zk_I x5), (6, zk_I x6), (7, zk_I x7)] → va_P D zk_cl (zm_P o a dA s0) H → va_S A s.heap H locs → W p l e zw_X1_sure_rm s m (zw_X1_sure_vs o p1).toArray below meth c H locs 0 0 (MQ below (zk_Q (some (zk_I r)) (fun t => va_P D zk_cl (zm_P o a dA σ') t.heap) A) (zw_X1_sure_vs o p1).toArray s 0 0 A) (F0 m 66 ls []) := by
        intro x4 x5 x6 x7 H locs ls hf hl hP hS
        refine zk_iincN (lv' := fun x7_6 => [(7, zk_I x7_6), (0, .ref o), (1, zk_I x1), (3, zk_I x3), (4, zk_I x4), (5, zk_I x5), (6, zk_I x6)]) hx hb dX1_sure_66 hl (k := 6) rfl (by decide) (fun _ => rfl) hf (fun x7_6 hf ls hl => ?_)
        refine lv_goto (tgt := 33) hx hb dX1_sure_69 (by decide) ?_
        obtain rfl := zk_so hf
        exact ih33 _ _ _ _ _ _ _ H locs ls hc33 (lv_sub hl [1, 2, 3, 4, 5, 6, 0] rfl) hP hS
      refine zk_iload hx hb dX1_sure_33 (lv_at hl 6 rfl) ?_
      refine zk_iloadn hx hb dX1_sure_35 rfl (lv_at hl 2 rfl) ?_
      refine zk_icmp_gt (tgt := 72) hx hb dX1_sure_36 (by decide) hf (fun h => h) (fun hf => ?_) (fun hf => ?_)
      · obtain rfl := zk_so hf
        exact hJ72 _ _ _ _ _ H locs ls hc33 (lv_sub hl [0, 2, 3, 4, 5] rfl) hP hS
      · refine lv_aload_n hx hb dX1_sure_39 rfl (lv_at hl 0 rfl) ?_
        refine zk_iload hx hb dX1_sure_40 (lv_at hl 6 rfl) ?_
        obtain ⟨v3, hq, hf⟩ := zk_bs hf
        refine zk_callVR (As := [zk_I x7]) (rest := []) ⟨hx, hb, hml, hown, hts⟩ (zw_X1_daringOf l N x7 s0 _ hq) (cwV 1 hts (lw_V q1308 q1310 qs75 q88 q1311) rfl rfl rfl (by decide +kernel) ⟨Nat.le_of_ble_eq_true rfl, Nat.le_of_ble_eq_true rfl⟩) hKX hP hS (va_recv hK hP (ci := 1) (q0 := 0) rfl rfl) rfl hl.1 rfl (Nat.le_of_ble_eq_true rfl) dX1_sure_42 ⟨Nat.le_of_ble_eq_true rfl, Nat.le_of_ble_eq_true rfl⟩ (fun H locs hP hS => ?_)
        refine zk_iloadn hx hb dX1_sure_45 rfl (lv_at hl 1 rfl) ?_
        refine zk_icmp_ne (tgt := 66) hx hb dX1_sure_46 (by decide) hf (fun h => h) (fun hf => ?_) (fun hf => ?_)
        · exact hJ66 _ _ _ _ H locs ls hf (lv_sub hl [0, 1, 2, 3, 4, 5, 6] rfl) hP hS
        · refine zk_iconst hx hb dX1_sure_49 ?_
          refine lv_istore (lv' := [(6, zk_I 1), (0, .ref o), (1, zk_I x1), (3, zk_I x3), (4, zk_I x4), (5, zk_I x5), (7, zk_I x7)]) hx hb dX1_sure_50 hl (by decide) rfl (fun ls hl => ?_)
          refine zk_iload hx hb dX1_sure_52 (lv_at hl 4 rfl) ?_
          refine zk_iload hx hb dX1_sure_54 (lv_at hl 6 rfl) ?_
          refine zk_riand hx hb dX1_sure_56 ?_
          refine zk_istoreN (lv' := fun x4_4 => [(4, zk_I x4_4), (6, zk_I 1), (0, .ref o), (1, zk_I x1), (3, zk_I x3), (5, zk_I x5), (7, zk_I x7)]) hx hb dX1_sure_57 hl (by decide) (fun _ => rfl) hf (fun x4_4 hf ls hl => ?_)
          refine zk_iload hx hb dX1_sure_59 (lv_at hl 5 rfl) ?_
          refine zk_iload hx hb dX1_sure_61 (lv_at hl 6 rfl) ?_
          refine zk_rior hx hb dX1_sure_63 ?_
          refine zk_istoreN (lv' := fun x5_5 => [(5, zk_I x5_5), (4, zk_I x4_4), (6, zk_I 1), (0, .ref o), (1, zk_I x1), (3, zk_I x3), (7, zk_I x7)]) hx hb dX1_sure_64 hl (by decide) (fun _ => rfl) hf (fun x5_5 hf ls hl => ?_)
          exact hJ66 _ _ _ _ H locs ls hf (lv_sub hl [3, 4, 5, 1, 0, 2, 6] rfl) hP hS
  refine lv_aload_n hx hb dX1_sure_0 rfl (lv_at hl 0 rfl) ?_
  refine zk_iloadn hx hb dX1_sure_1 rfl (lv_at hl 1 rfl) ?_
  obtain ⟨v1, hq, hf⟩ := zk_bs hf
  refine zk_callVR (As := [zk_I p1]) (rest := []) ⟨hx, hb, hml, hown, hts⟩ (zw_X1_noSets l p1 σ _ hq) (cwV 1 hts (lw_V q1303 q1305 qs74 q88 q1306) rfl rfl rfl (by decide +kernel) ⟨Nat.le_of_ble_eq_true rfl, Nat.le_of_ble_eq_true rfl⟩) hKX hP hS (va_recv hK hP (ci := 1) (q0 := 0) rfl rfl) rfl hl.1 rfl (Nat.le_of_ble_eq_true rfl) dX1_sure_2 ⟨Nat.le_of_ble_eq_true rfl, Nat.le_of_ble_eq_true rfl⟩ (fun H locs hP hS => ?_)
  refine lv_istore_n (lv' := [(2, zk_I v1), (0, .ref o), (1, zk_I p1)]) hx hb dX1_sure_5 rfl hl (by decide) rfl (fun ls hl => ?_)
  refine zk_iloadn hx hb dX1_sure_6 rfl (lv_at hl 0 rfl) ?_
  refine zk_if_eq (tgt := 12) hx hb dX1_sure_7 (by decide) hf (fun h => h) (fun hf => ?_) (fun hf => ?_)
  · refine zk_iconst hx hb dX1_sure_12 ?_
    refine lv_aload_n hx hb dX1_sure_13 rfl (lv_at hl 1 rfl) ?_
    refine zm_rget hx hb hts hown hK hP 1 (by decide) q950 rfl dX1_sure_14 ?_
    refine zk_rishl hx hb dX1_sure_17 hf (fun hf => ?_)
    refine zk_iconst hx hb dX1_sure_18 ?_
    refine zk_isub hx hb dX1_sure_19 ?_
    refine zk_istorenN (lv' := fun x3_2 => [(3, zk_I x3_2), (2, zk_I v1), (0, .ref o), (1, zk_I p1)]) hx hb dX1_sure_20 rfl hl (by decide) (fun _ => rfl) hf (fun x3_2 hf ls hl => ?_)
    refine zk_iloadn hx hb dX1_sure_21 rfl (lv_at hl 0 rfl) ?_
    refine lv_istore (lv' := [(4, zk_I x3_2), (3, zk_I x3_2), (2, zk_I v1), (0, .ref o), (1, zk_I p1)]) hx hb dX1_sure_22 hl (by decide) rfl (fun ls hl => ?_)
    refine zk_iconst hx hb dX1_sure_24 ?_
    refine lv_istore (lv' := [(5, zk_I 0), (4, zk_I x3_2), (3, zk_I x3_2), (2, zk_I v1), (0, .ref o), (1, zk_I p1)]) hx hb dX1_sure_25 hl (by decide) rfl (fun ls hl => ?_)
    refine zk_iconst hx hb dX1_sure_27 ?_
    refine lv_istore (lv' := [(6, zk_I 0), (5, zk_I 0), (4, zk_I x3_2), (3, zk_I x3_2), (2, zk_I v1), (0, .ref o), (1, zk_I p1)]) hx hb dX1_sure_28 hl (by decide) rfl (fun ls hl => ?_)
    refine zk_iconst hx hb dX1_sure_30 ?_
    refine lv_istore (lv' := [(7, zk_I 0), (6, zk_I 0), (5, zk_I 0), (4, zk_I x3_2), (3, zk_I x3_2), (2, zk_I v1), (0, .ref o), (1, zk_I p1)]) hx hb dX1_sure_31 hl (by decide) rfl (fun ls hl => ?_)
    exact hL33 N _ _ _ _ _ _ _ H locs ls hf (lv_sub hl [6, 7, 4, 3, 2, 1, 0] rfl) hP hS
  · refine zk_iloadn hx hb dX1_sure_10 rfl (lv_at hl 0 rfl) ?_
    exact zk_iret hx hb hr hlk (zk_p1 hf) (zk_pB hf hP) hS dX1_sure_11
abbrev zw_X1_daringRaised_rm : Room := { frames := 1, cells := 0, slots := 0, locals := 32 }
abbrev zw_X1_daringRaised_vs (o : Nat) (p1 p2 : Int) : List Value := [.ref o, zk_I p1, zk_I p2]
set_option maxHeartbeats 4000000 in
set_option maxRecDepth 100000 in
theorem zw_X1_daringRaised (l : Launch) {D : va_G} {o : Nat} {a : Nat → Nat} {dA : Nat → ClassId} (p1 p2 : Int) (σ : ZS) (r : Int) (hf : zm_daringRaised p1 p2 σ = some r) : zk_MR l yX1_daringRaised (ws_ yX1_daringRaised cX1_daringRaised 3 (Option.some Jvm.ClassFile.FieldType.int)) zw_X1_daringRaised_rm D zk_cl (zk_ty dA) (zw_X1_daringRaised_vs o p1 p2) (zm_P o a dA σ) (some (zk_I r)) := by
  refine zk_startW (by decide +kernel) (Nat.le_of_ble_eq_true rfl) (fun p e s m below meth c H locs ls hx hb hr hlk hml hown hts hKX hP hS hl => ?_)
  have hl : lv_has ls 3 [(0, .ref o), (1, zk_I p1), (2, zk_I p2)] := hl
  have hK := hKX.1
  have hown : s.vm.findClass RX1 = some m.cls := hown
  have hf : zm_daringRaised p1 p2 σ = some r := hf
  refine lv_aload_n hx hb dX1_daringRaised_0 rfl (lv_at hl 0 rfl) ?_
  refine zm_rget hx hb hts hown hK hP 0 (by decide) q949 rfl dX1_daringRaised_1 ?_
  refine zk_bipush hx hb dX1_daringRaised_4 (by decide) ?_
  refine zk_iloadn hx hb dX1_daringRaised_6 rfl (lv_at hl 1 rfl) ?_
  refine zk_iadd hx hb dX1_daringRaised_7 ?_
  refine zk_iald hx hb hK hP 1 0 rfl rfl (N := 3305) ⟨by decide, by decide⟩ hf dX1_daringRaised_8 (fun hf => ?_)
  refine zk_iloadn hx hb dX1_daringRaised_9 rfl (lv_at hl 2 rfl) ?_
  refine zk_iadd hx hb dX1_daringRaised_10 ?_
  exact zk_iret hx hb hr hlk (Option.some.inj hf) (fun _ _ => trivial) hS dX1_daringRaised_11
