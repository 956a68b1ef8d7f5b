abbrev zw_X1_comes_rm : Room := { frames := 5, cells := 0, slots := 0, locals := 124 }
abbrev zw_X1_comes_vs (o : Nat) (p1 p2 p3 p4 : Int) : List Value := [.ref o, zk_I p1, zk_I p2, zk_I p3, zk_I p4]
set_option maxHeartbeats 4000000 in
set_option maxRecDepth 100000 in
theorem zw_X1_comes (l : Launch) {D : va_G} {o : Nat} {a : Nat → Nat} {dA : Nat → ClassId} {A : Nat → Prop} (hD : ∀ τ, va_D A (zm_P o a dA τ)) (N : Nat) (p1 p2 p3 p4 : Int) (σ : ZS) (r : Int) (σ' : ZS) (hf : zm_comes N p1 p2 p3 p4 σ = some (r, σ')) : zk_MW l yX1_comes (ws_ yX1_comes cX1_comes 6 (Option.some Jvm.ClassFile.FieldType.int)) zw_X1_comes_rm D zk_cl (zk_ty dA) A (zw_X1_comes_vs o p1 p2 p3 p4) (zm_P o a dA σ) (zm_P o a dA σ') (some (zk_I r)) := by
  refine zk_startW (by decide +kernel) (Nat.le_of_ble_eq_true rfl) (fun p e s m below meth c H locs ls hx hb hr hlk hml hown hts hKX hP hS hl => ?_)
  have hl : lv_has ls 6 [(0, .ref o), (1, zk_I p1), (2, zk_I p2), (3, zk_I p3), (4, zk_I p4)] := hl
  have hK := hKX.1
  have hown : s.vm.findClass RX1 = some m.cls := hown
  have hf : zm_comes N p1 p2 p3 p4 σ = some (r, σ') := hf
  have hJ69 : ∀ (x1 x2 y0 y1 : Int) (s0 : ZS) (H : Heap) (locs : List Loc) (ls : Array Slot), zm_comes_j69 N x1 x2 y0 y1 s0 = some (r, σ') → lv_has ls 6 [(0, .ref o), (1, zk_I x1), (2, zk_I x2)] → va_P D zk_cl (zm_P o a dA s0) H → va_S A s.heap H locs → W p l e zw_X1_comes_rm s m (zw_X1_comes_vs o p1 p2 p3 p4).toArray below meth c H locs 0 0 (MQ below (zk_Q (some (zk_I r)) (fun t => va_P D zk_cl (zm_P o a dA σ') t.heap) A) (zw_X1_comes_vs o p1 p2 p3 p4).toArray s 0 0 A) (F0 m 69 ls [zk_I y1, zk_I y0, .ref (a 0)]) := by
    intro x1 x2 y0 y1 s0 H locs ls hf hl hP hS
    refine zk_iastN hx hb hK hP hD hS 1 0 0 rfl rfl (N := 3305) ⟨by decide, by decide⟩ (zm_t0 _ _ _) hf dX1_comes_69 (fun s8 H locs hf hP hS => ?_)
    refine lv_aload_n hx hb dX1_comes_70 rfl (lv_at hl 0 rfl) ?_
    refine zk_sipush hx hb dX1_comes_71 (by decide) ?_
    refine zk_iconst hx hb dX1_comes_74 ?_
    obtain ⟨v9, hq, hf⟩ := zk_bs hf
    refine zk_callVR (As := [zk_I 3284, zk_I 0]) (rest := []) ⟨hx, hb, hml, hown, hts⟩ (zw_X1_boldest l N 3284 0 s8 _ hq) (cwV 2 hts (lw_V q1173 q1175 qs60 q88 q1176) rfl rfl rfl (by decide +kernel) ⟨Nat.le_of_ble_eq_true rfl, Nat.le_of_ble_eq_true rfl⟩) hKX hP hS (va_recv hK hP (ci := 1) (q0 := 0) rfl rfl) rfl hl.1 rfl (Nat.le_of_ble_eq_true rfl) dX1_comes_75 ⟨Nat.le_of_ble_eq_true rfl, Nat.le_of_ble_eq_true rfl⟩ (fun H locs hP hS => ?_)
    refine lv_istore (lv' := [(5, zk_I v9), (0, .ref o), (1, zk_I x1), (2, zk_I x2)]) hx hb dX1_comes_78 hl (by decide) rfl (fun ls hl => ?_)
    refine zk_iload hx hb dX1_comes_80 (lv_at hl 0 rfl) ?_
    refine zk_iloadn hx hb dX1_comes_82 rfl (lv_at hl 2 rfl) ?_
    refine zk_icmp_ne (tgt := 90) hx hb dX1_comes_83 (by decide) hf (fun h => h) (fun hf => ?_) (fun hf => ?_)
    · refine zk_iload hx hb dX1_comes_90 (lv_at hl 0 rfl) ?_
      refine zk_iloadn hx hb dX1_comes_92 rfl (lv_at hl 3 rfl) ?_
      refine zk_icmp_ne (tgt := 100) hx hb dX1_comes_93 (by decide) hf (fun h => h) (fun hf => ?_) (fun hf => ?_)
      · refine zk_iconst hx hb dX1_comes_100 ?_
        exact zk_iret hx hb hr hlk (zk_p1 hf) (zk_pB hf hP) hS dX1_comes_101
      · refine zk_iconst hx hb dX1_comes_96 ?_
        refine lv_goto (tgt := 101) hx hb dX1_comes_97 (by decide) ?_
        exact zk_iret hx hb hr hlk (zk_p1 hf) (zk_pB hf hP) hS dX1_comes_101
    · refine zk_iconst hx hb dX1_comes_86 ?_
      refine lv_goto (tgt := 101) hx hb dX1_comes_87 (by decide) ?_
      exact zk_iret hx hb hr hlk (zk_p1 hf) (zk_pB hf hP) hS dX1_comes_101
  have hJ35 : ∀ (x1 x2 x4 y0 y1 : Int) (s0 : ZS) (H : Heap) (locs : List Loc) (ls : Array Slot), zm_comes_j35 N x1 x2 x4 y0 y1 s0 = some (r, σ') → lv_has ls 6 [(0, .ref o), (1, zk_I x1), (2, zk_I x2), (4, zk_I x4)] → va_P D zk_cl (zm_P o a dA s0) H → va_S A s.heap H locs → W p l e zw_X1_comes_rm s m (zw_X1_comes_vs o p1 p2 p3 p4).toArray below meth c H locs 0 0 (MQ below (zk_Q (some (zk_I r)) (fun t => va_P D zk_cl (zm_P o a dA σ') t.heap) A) (zw_X1_comes_vs o p1 p2 p3 p4).toArray s 0 0 A) (F0 m 35 ls [zk_I y1, zk_I y0, .ref (a 0)]) := by
    intro x1 x2 x4 y0 y1 s0 H locs ls hf hl hP hS
    refine zk_iastN hx hb hK hP hD hS 1 0 0 rfl rfl (N := 3305) ⟨by decide, by decide⟩ (zm_t0 _ _ _) hf dX1_comes_35 (fun s5 H locs hf hP hS => ?_)
    refine lv_aload_n hx hb dX1_comes_36 rfl (lv_at hl 0 rfl) ?_
    refine zm_rget hx hb hts hown hK hP 0 (by decide) q949 rfl dX1_comes_37 ?_
    refine zk_sipush hx hb dX1_comes_40 (by decide) ?_
    refine zk_iloadn hx hb dX1_comes_43 rfl (lv_at hl 2 rfl) ?_
    refine zk_iadd hx hb dX1_comes_44 ?_
    refine lv_aload_n hx hb dX1_comes_45 rfl (lv_at hl 0 rfl) ?_
    refine zk_iloadn hx hb dX1_comes_46 rfl (lv_at hl 2 rfl) ?_
    refine zk_iload hx hb dX1_comes_47 (lv_at hl 3 rfl) ?_
    obtain ⟨v6, hq, hf⟩ := zk_bs hf
    refine zk_callVR (As := [zk_I x2, zk_I x4]) (rest := [zk_I (3293 + x2), .ref (a 0)]) ⟨hx, hb, hml, hown, hts⟩ (zw_X1_daringRaised l x2 x4 s5 _ hq) (cwV 2 hts (lw_V q1324 q1326 qs77 q88 q1327) rfl rfl rfl (by decide +kernel) ⟨Nat.le_of_ble_eq_true rfl, Nat.le_of_ble_eq_true rfl⟩) hKX hP hS (va_recv hK hP (ci := 1) (q0 := 0) rfl rfl) rfl hl.1 rfl (Nat.le_of_ble_eq_true rfl) dX1_comes_49 ⟨Nat.le_of_ble_eq_true rfl, Nat.le_of_ble_eq_true rfl⟩ (fun H locs hP hS => ?_)
    refine zk_bipush hx hb dX1_comes_52 (by decide) ?_
    refine zk_icmp_le (tgt := 62) hx hb dX1_comes_54 (by decide) hf (fun h => ⟨h, by decide⟩) (fun hf => ?_) (fun hf => ?_)
    · refine lv_aload_n hx hb dX1_comes_62 rfl (lv_at hl 0 rfl) ?_
      refine zk_iloadn hx hb dX1_comes_63 rfl (lv_at hl 2 rfl) ?_
      refine zk_iload hx hb dX1_comes_64 (lv_at hl 3 rfl) ?_
      obtain ⟨v7, hq, hf⟩ := zk_bs hf
      refine zk_callVR (As := [zk_I x2, zk_I x4]) (rest := [zk_I (3293 + x2), .ref (a 0)]) ⟨hx, hb, hml, hown, hts⟩ (zw_X1_daringRaised l x2 x4 s5 _ hq) (cwV 2 hts (lw_V q1324 q1326 qs77 q88 q1327) rfl rfl rfl (by decide +kernel) ⟨Nat.le_of_ble_eq_true rfl, Nat.le_of_ble_eq_true rfl⟩) hKX hP hS (va_recv hK hP (ci := 1) (q0 := 0) rfl rfl) rfl hl.1 rfl (Nat.le_of_ble_eq_true rfl) dX1_comes_66 ⟨Nat.le_of_ble_eq_true rfl, Nat.le_of_ble_eq_true rfl⟩ (fun H locs hP hS => ?_)
      exact hJ69 _ _ _ _ _ H locs ls hf (lv_sub hl [0, 1, 2] rfl) hP hS
    · refine zk_bipush hx hb dX1_comes_57 (by decide) ?_
      refine lv_goto (tgt := 69) hx hb dX1_comes_59 (by decide) ?_
      exact hJ69 _ _ _ _ _ H locs ls hf (lv_sub hl [0, 1, 2] rfl) hP hS
  refine lv_aload_n hx hb dX1_comes_0 rfl (lv_at hl 0 rfl) ?_
  obtain ⟨v1, s2, hq, hf⟩ := zk_b2s hf
  refine zk_callVW (As := []) (rest := []) ⟨hx, hb, hml, hown, hts⟩ (zw_X1_layTried l hD N  σ _ _ hq) (cwV 0 hts (lw_V q1229 q1231 qs64 q88 q1232) rfl rfl rfl (by decide +kernel) ⟨Nat.le_of_ble_eq_true rfl, Nat.le_of_ble_eq_true rfl⟩) hKX hP hS (va_recv hK hP (ci := 1) (q0 := 0) rfl rfl) rfl hl.1 rfl (Nat.le_of_ble_eq_true rfl) dX1_comes_1 ⟨Nat.le_of_ble_eq_true rfl, Nat.le_of_ble_eq_true rfl⟩ (fun H locs hP hS => ?_)
  refine lv_aload_n hx hb dX1_comes_4 rfl (lv_at hl 0 rfl) ?_
  refine zm_rget hx hb hts hown hK hP 0 (by decide) q949 rfl dX1_comes_5 ?_
  refine zk_sipush hx hb dX1_comes_8 (by decide) ?_
  refine zk_iloadn hx hb dX1_comes_11 rfl (lv_at hl 1 rfl) ?_
  refine zk_iadd hx hb dX1_comes_12 ?_
  refine lv_aload_n hx hb dX1_comes_13 rfl (lv_at hl 0 rfl) ?_
  refine zk_iloadn hx hb dX1_comes_14 rfl (lv_at hl 1 rfl) ?_
  refine zk_iloadn hx hb dX1_comes_15 rfl (lv_at hl 3 rfl) ?_
  obtain ⟨v3, hq, hf⟩ := zk_bs hf
  refine zk_callVR (As := [zk_I p1, zk_I p3]) (rest := [zk_I (3293 + p1), .ref (a 0)]) ⟨hx, hb, hml, hown, hts⟩ (zw_X1_daringRaised l p1 p3 s2 _ hq) (cwV 2 hts (lw_V q1324 q1326 qs77 q88 q1327) rfl rfl rfl (by decide +kernel) ⟨Nat.le_of_ble_eq_true rfl, Nat.le_of_ble_eq_true rfl⟩) hKX hP hS (va_recv hK hP (ci := 1) (q0 := 0) rfl rfl) rfl hl.1 rfl (Nat.le_of_ble_eq_true rfl) dX1_comes_16 ⟨Nat.le_of_ble_eq_true rfl, Nat.le_of_ble_eq_true rfl⟩ (fun H locs hP hS => ?_)
  refine zk_bipush hx hb dX1_comes_19 (by decide) ?_
  refine zk_icmp_le (tgt := 29) hx hb dX1_comes_21 (by decide) hf (fun h => ⟨h, by decide⟩) (fun hf => ?_) (fun hf => ?_)
  · refine lv_aload_n hx hb dX1_comes_29 rfl (lv_at hl 0 rfl) ?_
    refine zk_iloadn hx hb dX1_comes_30 rfl (lv_at hl 1 rfl) ?_
    refine zk_iloadn hx hb dX1_comes_31 rfl (lv_at hl 3 rfl) ?_
    obtain ⟨v4, hq, hf⟩ := zk_bs hf
    refine zk_callVR (As := [zk_I p1, zk_I p3]) (rest := [zk_I (3293 + p1), .ref (a 0)]) ⟨hx, hb, hml, hown, hts⟩ (zw_X1_daringRaised l p1 p3 s2 _ hq) (cwV 2 hts (lw_V q1324 q1326 qs77 q88 q1327) rfl rfl rfl (by decide +kernel) ⟨Nat.le_of_ble_eq_true rfl, Nat.le_of_ble_eq_true rfl⟩) hKX hP hS (va_recv hK hP (ci := 1) (q0 := 0) rfl rfl) rfl hl.1 rfl (Nat.le_of_ble_eq_true rfl) dX1_comes_32 ⟨Nat.le_of_ble_eq_true rfl, Nat.le_of_ble_eq_true rfl⟩ (fun H locs hP hS => ?_)
    exact hJ35 _ _ _ _ _ _ H locs ls hf (lv_sub hl [0, 1, 2, 4] rfl) hP hS
  · refine zk_bipush hx hb dX1_comes_24 (by decide) ?_
    refine lv_goto (tgt := 35) hx hb dX1_comes_26 (by decide) ?_
    exact hJ35 _ _ _ _ _ _ H locs ls hf (lv_sub hl [0, 1, 2, 4] rfl) hP hS
abbrev zw_X1_duel_rm : Room := { frames := 6, cells := 0, slots := 0, locals := 149 }
abbrev zw_X1_duel_vs (o : Nat) (p1 p2 p3 : Int) : List Value := [.ref o, zk_I p1, zk_I p2, zk_I p3]
set_option maxHeartbeats 4000000 in
set_option maxRecDepth 100000 in
theorem zw_X1_duel (l : Launch) {D : va_G} {o : Nat} {a : Nat → Nat} {dA : Nat → ClassId} {A : Nat → Prop} (hD : ∀ τ, va_D A (zm_P o a dA τ)) (N : Nat) (p1 p2 p3 : Int) (σ : ZS) (r : Int) (σ' : ZS) (hf : zm_duel N p1 p2 p3 σ = some (r, σ')) : zk_MW l yX1_duel (ws_ yX1_duel cX1_duel 12 (Option.some Jvm.ClassFile.FieldType.int)) zw_X1_duel_rm D zk_cl (zk_ty dA) A (zw_X1_duel_vs o p1 p2 p3) (zm_P o a dA σ) (zm_P o a dA σ') (some (zk_I r)) := by
  refine zk_startW (by decide +kernel) (Nat.le_of_ble_eq_true rfl) (fun p e s m below meth c H locs ls hx hb hr hlk hml hown hts hKX hP hS hl => ?_)
  have hl : lv_has ls 12 [(0, .ref o), (1, zk_I p1), (2, zk_I p2), (3, zk_I p3)] := hl
  have hK := hKX.1
  have hown : s.vm.findClass RX1 = some m.cls := hown
  have hf : zm_duel N p1 p2 p3 σ = some (r, σ') := hf
  have hJ278 : ∀ (s0 : ZS) (H : Heap) (locs : List Loc) (ls : Array Slot), zm_duel_j278 N  s0 = some (r, σ') → lv_has ls 12 [(0, .ref o)] → va_P D zk_cl (zm_P o a dA s0) H → va_S A s.heap H locs → W p l e zw_X1_duel_rm s m (zw_X1_duel_vs o p1 p2 p3).toArray below meth c H locs 0 0 (MQ below (zk_Q (some (zk_I r)) (fun t => va_P D zk_cl (zm_P o a dA σ') t.heap) A) (zw_X1_duel_vs o p1 p2 p3).toArray s 0 0 A) (F0 m 278 ls []) := by
    intro s0 H locs ls hf hl hP hS
    refine lv_aload_n hx hb dX1_duel_278 rfl (lv_at hl 0 rfl) ?_
    refine lv_aload_n hx hb dX1_duel_279 rfl (lv_at hl 0 rfl) ?_
    refine zm_rget hx hb hts hown hK hP 21 (by decide) q970 rfl dX1_duel_280 ?_
    refine zk_iconst hx hb dX1_duel_283 ?_
    refine zk_iald hx hb hK hP 12 0 rfl rfl (N := 49) ⟨by decide, by decide⟩ hf dX1_duel_284 (fun hf => ?_)
    refine zm_rput hx hb hts hown hK hP hD hS 7 (by decide) q956 rfl rfl rfl (zm_s7 _ _) hf dX1_duel_285 (fun s17 H locs hf hP hS => ?_)
    refine zk_iconst hx hb dX1_duel_288 ?_
    exact zk_iret hx hb hr hlk (zk_p1 hf) (zk_pB hf hP) hS dX1_duel_289
  have hL81 : ∀ (n : Nat) (x1 x2 x4 : Int) (s0 : ZS) (H : Heap) (locs : List Loc) (ls : Array Slot), zk_b (zk_loop (α := Int × ZS) (β := ZS) n (fun a => zm_duel_b81 N x1 x2 a.1 a.2) (x4, s0)) (fun e => zm_duel_j278 N e) = some (r, σ') → lv_has ls 12 [(0, .ref o), (1, zk_I x1), (2, zk_I x2), (4, zk_I x4)] → va_P D zk_cl (zm_P o a dA s0) H → va_S A s.heap H locs → W p l e zw_X1_duel_rm s m (zw_X1_duel_vs o p1 p2 p3).toArray below meth c H locs 0 0 (MQ below (zk_Q (some (zk_I r)) (fun t => va_P D zk_cl (zm_P o a dA σ') t.heap) A) (zw_X1_duel_vs o p1 p2 p3).toArray s 0 0 A) (F0 m 81 ls []) := by
    intro n
    induction n with
    | zero => intro x1 x2 x4 s0 H locs ls hf; exact (zk_l0 hf).elim
    | succ n ih81 =>
      intro x1 x2 x4 s0 H locs ls hf hl hP hS
      obtain ⟨c81, hf, hc81⟩ := zk_ls hf
      have hJ272 : ∀ (x4 : Int) (s0 : ZS) (H : Heap) (locs : List Loc) (ls : Array Slot), zm_duel_j272 N x1 x2 x4 s0 = some c81 → lv_has ls 12 [(0, .ref o), (1, zk_I x1), (2, zk_I x2), (4, zk_I x4)] → va_P D zk_cl (zm_P o a dA s0) H → va_S A s.heap H locs → W p l e zw_X1_duel_rm s m (zw_X1_duel_vs o p1 p2 p3).toArray below meth c H locs 0 0 (MQ below (zk_Q (some (zk_I r)) (fun t => va_P D zk_cl (zm_P o a dA σ') t.heap) A) (zw_X1_duel_vs o p1 p2 p3).toArray s 0 0 A) (F0 m 272 ls []) := by
        intro x4 s0 H locs ls hf hl hP hS
        refine zk_iincN (lv' := fun x4_16 => [(4, zk_I x4_16), (0, .ref o), (1, zk_I x1), (2, zk_I x2)]) hx hb dX1_duel_272 hl (k := 3) rfl (by decide) (fun _ => rfl) hf (fun x4_16 hf ls hl => ?_)
        refine lv_goto (tgt := 81) hx hb dX1_duel_275 (by decide) ?_
        obtain rfl := zk_so hf
        exact ih81 _ _ _ _ H locs ls hc81 (lv_sub hl [1, 2, 3, 0] rfl) hP hS
      have hL118 : ∀ (n : Nat) (x4 x5 x6 x7 : Int) (s0 : ZS) (H : Heap) (locs : List Loc) (ls : Array Slot), zk_b (zk_loop (α := Int × ZS) (β := ZS) n (fun a => zm_duel_b118 N x1 x2 x4 x5 x6 a.1 a.2) (x7, s0)) (fun e => zm_duel_j272 N x1 x2 x4 e) = some c81 → lv_has ls 12 [(0, .ref o), (1, zk_I x1), (2, zk_I x2), (4, zk_I x4), (5, zk_I x5), (6, zk_I x6), (7, zk_I x7)] → va_P D zk_cl (zm_P o a dA s0) H → va_S A s.heap H locs → W p l e zw_X1_duel_rm s m (zw_X1_duel_vs o p1 p2 p3).toArray below meth c H locs 0 0 (MQ below (zk_Q (some (zk_I r)) (fun t => va_P D zk_cl (zm_P o a dA σ') t.heap) A) (zw_X1_duel_vs o p1 p2 p3).toArray s 0 0 A) (F0 m 118 ls []) := by
        intro n
        induction n with
        | zero => intro x4 x5 x6 x7 s0 H locs ls hf; exact (zk_l0 hf).elim
        | succ n ih118 =>
          intro x4 x5 x6 x7 s0 H locs ls hf hl hP hS
          obtain ⟨c118, hf, hc118⟩ := zk_ls hf
          have hJ257 : ∀ (x7 x9 : Int) (s0 : ZS) (H : Heap) (locs : List Loc) (ls : Array Slot), zm_duel_j257 N x1 x2 x4 x5 x6 x7 x9 s0 = some c118 → lv_has ls 12 [(0, .ref o), (1, zk_I x1), (2, zk_I x2), (4, zk_I x4), (5, zk_I x5), (6, zk_I x6), (7, zk_I x7), (9, zk_I x9)] → va_P D zk_cl (zm_P o a dA s0) H → va_S A s.heap H locs → W p l e zw_X1_duel_rm s m (zw_X1_duel_vs o p1 p2 p3).toArray below meth c H locs 0 0 (MQ below (zk_Q (some (zk_I r)) (fun t => va_P D zk_cl (zm_P o a dA σ') t.heap) A) (zw_X1_duel_vs o p1 p2 p3).toArray s 0 0 A) (F0 m 257 ls []) := by
            intro x7 x9 s0 H locs ls hf hl hP hS
            refine lv_aload_n hx hb dX1_duel_257 rfl (lv_at hl 0 rfl) ?_
            refine zm_rget hx hb hts hown hK hP 21 (by decide) q970 rfl dX1_duel_258 ?_
            refine zk_iload hx hb dX1_duel_261 (lv_at hl 6 rfl) ?_
            refine zk_iload hx hb dX1_duel_263 (lv_at hl 7 rfl) ?_
            refine zk_iastN hx hb hK hP hD hS 12 0 21 rfl rfl (N := 49) ⟨by decide, by decide⟩ (zm_t21 _ _ _) hf dX1_duel_265 (fun s14 H locs hf hP hS => ?_)
            refine zk_iincN (lv' := fun x7_15 => [(7, zk_I x7_15), (0, .ref o), (1, zk_I x1), (2, zk_I x2), (4, zk_I x4), (5, zk_I x5), (6, zk_I x6), (9, zk_I x9)]) hx hb dX1_duel_266 hl (k := 6) rfl (by decide) (fun _ => rfl) hf (fun x7_15 hf ls hl => ?_)
            refine lv_goto (tgt := 118) hx hb dX1_duel_269 (by decide) ?_
            obtain rfl := zk_so hf
            exact ih118 _ _ _ _ _ H locs ls hc118 (lv_sub hl [1, 2, 3, 4, 5, 6, 0] rfl) hP hS
          have hL159 : ∀ (n : Nat) (x7 x8 x9 x10 : Int) (s0 : ZS) (H : Heap) (locs : List Loc) (ls : Array Slot), zk_b (zk_loop (α := Int × Int) (β := Int) n (fun a => zm_duel_b159 N x1 x2 x4 x5 x6 x7 x8 a.1 a.2 s0) (x9, x10)) (fun e => zm_duel_j257 N x1 x2 x4 x5 x6 x7 e s0) = some c118 → lv_has ls 12 [(0, .ref o), (1, zk_I x1), (2, zk_I x2), (4, zk_I x4), (5, zk_I x5), (6, zk_I x6), (7, zk_I x7), (8, zk_I x8), (9, zk_I x9), (10, zk_I x10)] → va_P D zk_cl (zm_P o a dA s0) H → va_S A s.heap H locs → W p l e zw_X1_duel_rm s m (zw_X1_duel_vs o p1 p2 p3).toArray below meth c H locs 0 0 (MQ below (zk_Q (some (zk_I r)) (fun t => va_P D zk_cl (zm_P o a dA σ') t.heap) A) (zw_X1_duel_vs o p1 p2 p3).toArray s 0 0 A) (F0 m 159 ls []) := by
            intro n
            induction n with
            | zero => intro x7 x8 x9 x10 s0 H locs ls hf; exact (zk_l0 hf).elim
            | succ n ih159 =>
              intro x7 x8 x9 x10 s0 H locs ls hf hl hP hS
              obtain ⟨c159, hf, hc159⟩ := zk_ls hf
              have hJ249 : ∀ (x10 y0 : Int) (H : Heap) (locs : List Loc) (ls : Array Slot), zm_duel_j249 N x1 x2 x4 x5 x6 x7 x8 x10 y0 s0 = some c159 → lv_has ls 12 [(0, .ref o), (1, zk_I x1), (2, zk_I x2), (4, zk_I x4), (5, zk_I x5), (6, zk_I x6), (7, zk_I x7), (8, zk_I x8), (10, zk_I x10)] → va_P D zk_cl (zm_P o a dA s0) H → va_S A s.heap H locs → W p l e zw_X1_duel_rm s m (zw_X1_duel_vs o p1 p2 p3).toArray below meth c H locs 0 0 (MQ below (zk_Q (some (zk_I r)) (fun t => va_P D zk_cl (zm_P o a dA σ') t.heap) A) (zw_X1_duel_vs o p1 p2 p3).toArray s 0 0 A) (F0 m 249 ls [zk_I y0]) := by
                intro x10 y0 H locs ls hf hl hP hS
                refine lv_istore (lv' := [(9, zk_I y0), (0, .ref o), (1, zk_I x1), (2, zk_I x2), (4, zk_I x4), (5, zk_I x5), (6, zk_I x6), (7, zk_I x7), (8, zk_I x8), (10, zk_I x10)]) hx hb dX1_duel_249 hl (by decide) rfl (fun ls hl => ?_)
                refine zk_iincN (lv' := fun x10_13 => [(10, zk_I x10_13), (9, zk_I y0), (0, .ref o), (1, zk_I x1), (2, zk_I x2), (4, zk_I x4), (5, zk_I x5), (6, zk_I x6), (7, zk_I x7), (8, zk_I x8)]) hx hb dX1_duel_251 hl (k := 9) rfl (by decide) (fun _ => rfl) hf (fun x10_13 hf ls hl => ?_)
                refine lv_goto (tgt := 159) hx hb dX1_duel_254 (by decide) ?_
                obtain rfl := zk_so hf
                exact ih159 _ _ _ _ _ H locs ls hc159 (lv_sub hl [2, 3, 4, 5, 6, 7, 8, 9, 1, 0] rfl) hP hS
              have hJ209 : ∀ (x9 x10 y0 : Int) (H : Heap) (locs : List Loc) (ls : Array Slot), zm_duel_j209 N x1 x2 x4 x5 x6 x7 x8 x9 x10 y0 s0 = some c159 → lv_has ls 12 [(0, .ref o), (1, zk_I x1), (2, zk_I x2), (4, zk_I x4), (5, zk_I x5), (6, zk_I x6), (7, zk_I x7), (8, zk_I x8), (9, zk_I x9), (10, zk_I x10)] → va_P D zk_cl (zm_P o a dA s0) H → va_S A s.heap H locs → W p l e zw_X1_duel_rm s m (zw_X1_duel_vs o p1 p2 p3).toArray below meth c H locs 0 0 (MQ below (zk_Q (some (zk_I r)) (fun t => va_P D zk_cl (zm_P o a dA σ') t.heap) A) (zw_X1_duel_vs o p1 p2 p3).toArray s 0 0 A) (F0 m 209 ls [zk_I y0]) := by
                intro x9 x10 y0 H locs ls hf hl hP hS
                refine lv_istore (lv' := [(11, zk_I y0), (0, .ref o), (1, zk_I x1), (2, zk_I x2), (4, zk_I x4), (5, zk_I x5), (6, zk_I x6), (7, zk_I x7), (8, zk_I x8), (9, zk_I x9), (10, zk_I x10)]) hx hb dX1_duel_209 hl (by decide) rfl (fun ls hl => ?_)
                refine zk_iload hx hb dX1_duel_211 (lv_at hl 4 rfl) ?_
                refine zk_iconst hx hb dX1_duel_213 ?_
                refine zk_rirem hx hb dX1_duel_214 hf (fun hf => ?_)
                refine zk_if_ne (tgt := 235) hx hb dX1_duel_215 (by decide) hf (fun h => h) (fun hf => ?_) (fun hf => ?_)
                · refine zk_iload hx hb dX1_duel_235 (lv_at hl 0 rfl) ?_
                  refine zk_iload hx hb dX1_duel_237 (lv_at hl 9 rfl) ?_
                  refine zk_icmp_ge (tgt := 247) hx hb dX1_duel_239 (by decide) hf (fun h => h) (fun hf => ?_) (fun hf => ?_)
                  · refine zk_iload hx hb dX1_duel_247 (lv_at hl 9 rfl) ?_
                    exact hJ249 _ _ H locs ls hf (lv_sub hl [1, 2, 3, 4, 5, 6, 7, 8, 10] rfl) hP hS
                  · refine zk_iload hx hb dX1_duel_242 (lv_at hl 0 rfl) ?_
                    refine lv_goto (tgt := 249) hx hb dX1_duel_244 (by decide) ?_
                    exact hJ249 _ _ H locs ls hf (lv_sub hl [1, 2, 3, 4, 5, 6, 7, 8, 10] rfl) hP hS
                · refine zk_iload hx hb dX1_duel_218 (lv_at hl 0 rfl) ?_
                  refine zk_iload hx hb dX1_duel_220 (lv_at hl 9 rfl) ?_
                  refine zk_icmp_le (tgt := 230) hx hb dX1_duel_222 (by decide) hf (fun h => h) (fun hf => ?_) (fun hf => ?_)
                  · refine zk_iload hx hb dX1_duel_230 (lv_at hl 9 rfl) ?_
                    refine lv_goto (tgt := 249) hx hb dX1_duel_232 (by decide) ?_
                    exact hJ249 _ _ H locs ls hf (lv_sub hl [1, 2, 3, 4, 5, 6, 7, 8, 10] rfl) hP hS
                  · refine zk_iload hx hb dX1_duel_225 (lv_at hl 0 rfl) ?_
                    refine lv_goto (tgt := 249) hx hb dX1_duel_227 (by decide) ?_
                    exact hJ249 _ _ H locs ls hf (lv_sub hl [1, 2, 3, 4, 5, 6, 7, 8, 10] rfl) hP hS
              refine zk_iload hx hb dX1_duel_159 (lv_at hl 9 rfl) ?_
              refine zk_iconst hx hb dX1_duel_161 ?_
              refine zk_icmp_ge (tgt := 257) hx hb dX1_duel_162 (by decide) hf (fun h => ⟨h, by decide⟩) (fun hf => ?_) (fun hf => ?_)
              · obtain rfl := zk_so hf
                exact hJ257 _ _ _ H locs ls hc159 (lv_sub hl [0, 1, 2, 3, 4, 5, 6, 8] rfl) hP hS
              · refine zk_iload hx hb dX1_duel_165 (lv_at hl 7 rfl) ?_
                refine zk_iload hx hb dX1_duel_167 (lv_at hl 9 rfl) ?_
                refine zk_iadd hx hb dX1_duel_169 ?_
                refine zk_bipush hx hb dX1_duel_170 (by decide) ?_
                refine zk_icmp_ge (tgt := 257) hx hb dX1_duel_172 (by decide) hf (fun h => ⟨h, by decide⟩) (fun hf => ?_) (fun hf => ?_)
                · obtain rfl := zk_so hf
                  exact hJ257 _ _ _ H locs ls hc159 (lv_sub hl [0, 1, 2, 3, 4, 5, 6, 8] rfl) hP hS
                · refine lv_aload_n hx hb dX1_duel_175 rfl (lv_at hl 0 rfl) ?_
                  refine zk_iload hx hb dX1_duel_176 (lv_at hl 4 rfl) ?_
                  refine zk_iload hx hb dX1_duel_178 (lv_at hl 7 rfl) ?_
                  refine zk_iload hx hb dX1_duel_180 (lv_at hl 9 rfl) ?_
                  refine zk_iadd hx hb dX1_duel_182 ?_
                  obtain ⟨v12, hq, hf⟩ := zk_bs hf
                  refine zk_callVR (As := [zk_I x5, zk_I (x8 + x10)]) (rest := []) ⟨hx, hb, hml, hown, hts⟩ (zw_X1_daringRaised l x5 (x8 + x10) s0 _ hq) (cwV 2 hts (lw_V q1324 q1326 qs77 q88 q1327) rfl rfl rfl (by decide +kernel) ⟨Nat.le_of_ble_eq_true rfl, Nat.le_of_ble_eq_true rfl⟩) hKX hP hS (va_recv hK hP (ci := 1) (q0 := 0) rfl rfl) rfl hl.1 rfl (Nat.le_of_ble_eq_true rfl) dX1_duel_183 ⟨Nat.le_of_ble_eq_true rfl, Nat.le_of_ble_eq_true rfl⟩ (fun H locs hP hS => ?_)
                  refine zk_bipush hx hb dX1_duel_186 (by decide) ?_
                  refine zk_icmp_ge (tgt := 207) hx hb dX1_duel_188 (by decide) hf (fun h => ⟨h, by decide⟩) (fun hf => ?_) (fun hf => ?_)
                  · refine zk_iload hx hb dX1_duel_207 (lv_at hl 8 rfl) ?_
                    exact hJ209 _ _ _ H locs ls hf (lv_sub hl [0, 1, 2, 3, 4, 5, 6, 7, 8, 9] rfl) hP hS
                  · refine lv_aload_n hx hb dX1_duel_191 rfl (lv_at hl 0 rfl) ?_
                    refine zm_rget hx hb hts hown hK hP 21 (by decide) q970 rfl dX1_duel_192 ?_
                    refine zk_iload hx hb dX1_duel_195 (lv_at hl 6 rfl) ?_
                    refine zk_iload hx hb dX1_duel_197 (lv_at hl 5 rfl) ?_
                    refine zk_iload hx hb dX1_duel_199 (lv_at hl 9 rfl) ?_
                    refine zk_imul hx hb dX1_duel_201 ?_
                    refine zk_iadd hx hb dX1_duel_202 ?_
                    refine zk_iald hx hb hK hP 12 0 rfl rfl (N := 49) ⟨by decide, by decide⟩ hf dX1_duel_203 (fun hf => ?_)
                    refine lv_goto (tgt := 209) hx hb dX1_duel_204 (by decide) ?_
                    exact hJ209 _ _ _ H locs ls hf (lv_sub hl [0, 1, 2, 3, 4, 5, 6, 7, 8, 9] rfl) hP hS
          have hJ145 : ∀ (x7 y0 : Int) (s0 : ZS) (H : Heap) (locs : List Loc) (ls : Array Slot), zm_duel_j145 N x1 x2 x4 x5 x6 x7 y0 s0 = some c118 → lv_has ls 12 [(0, .ref o), (1, zk_I x1), (2, zk_I x2), (4, zk_I x4), (5, zk_I x5), (6, zk_I x6), (7, zk_I x7)] → va_P D zk_cl (zm_P o a dA s0) H → va_S A s.heap H locs → W p l e zw_X1_duel_rm s m (zw_X1_duel_vs o p1 p2 p3).toArray below meth c H locs 0 0 (MQ below (zk_Q (some (zk_I r)) (fun t => va_P D zk_cl (zm_P o a dA σ') t.heap) A) (zw_X1_duel_vs o p1 p2 p3).toArray s 0 0 A) (F0 m 145 ls [zk_I y0]) := by
            intro x7 y0 s0 H locs ls hf hl hP hS
            refine lv_istore (lv' := [(8, zk_I y0), (0, .ref o), (1, zk_I x1), (2, zk_I x2), (4, zk_I x4), (5, zk_I x5), (6, zk_I x6), (7, zk_I x7)]) hx hb dX1_duel_145 hl (by decide) rfl (fun ls hl => ?_)
            refine lv_aload_n hx hb dX1_duel_147 rfl (lv_at hl 1 rfl) ?_
            refine zm_rget hx hb hts hown hK hP 21 (by decide) q970 rfl dX1_duel_148 ?_
            refine zk_iload hx hb dX1_duel_151 (lv_at hl 7 rfl) ?_
            refine zk_iald hx hb hK hP 12 0 rfl rfl (N := 49) ⟨by decide, by decide⟩ hf dX1_duel_153 (fun hf => ?_)
            refine zk_istoreN (lv' := fun x9_11 => [(9, zk_I x9_11), (8, zk_I y0), (0, .ref o), (1, zk_I x1), (2, zk_I x2), (4, zk_I x4), (5, zk_I x5), (6, zk_I x6), (7, zk_I x7)]) hx hb dX1_duel_154 hl (by decide) (fun _ => rfl) hf (fun x9_11 hf ls hl => ?_)
            refine zk_iconst hx hb dX1_duel_156 ?_
            refine lv_istore (lv' := [(10, zk_I 1), (9, zk_I x9_11), (8, zk_I y0), (0, .ref o), (1, zk_I x1), (2, zk_I x2), (4, zk_I x4), (5, zk_I x5), (6, zk_I x6), (7, zk_I x7)]) hx hb dX1_duel_157 hl (by decide) rfl (fun ls hl => ?_)
            exact hL159 N _ _ _ _ _ H locs ls hf (lv_sub hl [3, 4, 5, 6, 7, 8, 9, 2, 1, 0] rfl) hP hS
          refine zk_iload hx hb dX1_duel_118 (lv_at hl 6 rfl) ?_
          refine zk_bipush hx hb dX1_duel_120 (by decide) ?_
          refine zk_icmp_ge (tgt := 272) hx hb dX1_duel_122 (by decide) hf (fun h => ⟨h, by decide⟩) (fun hf => ?_) (fun hf => ?_)
          · obtain rfl := zk_so hf
            exact hJ272 _ _ H locs ls hc118 (lv_sub hl [0, 1, 2, 3] rfl) hP hS
          · refine zk_iload hx hb dX1_duel_125 (lv_at hl 3 rfl) ?_
            refine zk_iconst hx hb dX1_duel_127 ?_
            refine zk_rirem hx hb dX1_duel_128 hf (fun hf => ?_)
            refine zk_if_ne (tgt := 140) hx hb dX1_duel_129 (by decide) hf (fun h => h) (fun hf => ?_) (fun hf => ?_)
            · refine zk_iload hx hb dX1_duel_140 (lv_at hl 6 rfl) ?_
              refine zk_bipush hx hb dX1_duel_142 (by decide) ?_
              refine zk_rirem hx hb dX1_duel_144 hf (fun hf => ?_)
              exact hJ145 _ _ _ H locs ls hf (lv_sub hl [0, 1, 2, 3, 4, 5, 6] rfl) hP hS
            · refine zk_iload hx hb dX1_duel_132 (lv_at hl 6 rfl) ?_
              refine zk_bipush hx hb dX1_duel_134 (by decide) ?_
              refine zk_ridiv hx hb dX1_duel_136 hf (fun hf => ?_)
              refine lv_goto (tgt := 145) hx hb dX1_duel_137 (by decide) ?_
              exact hJ145 _ _ _ H locs ls hf (lv_sub hl [0, 1, 2, 3, 4, 5, 6] rfl) hP hS
      refine zk_iload hx hb dX1_duel_81 (lv_at hl 3 rfl) ?_
      refine zk_if_lt (tgt := 278) hx hb dX1_duel_83 (by decide) hf (fun h => h) (fun hf => ?_) (fun hf => ?_)
      · obtain rfl := zk_so hf
        exact hJ278 _ H locs ls hc81 (lv_sub hl [0] rfl) hP hS
      · refine zk_iload hx hb dX1_duel_86 (lv_at hl 3 rfl) ?_
        refine zk_iconst hx hb dX1_duel_88 ?_
        refine zk_rirem hx hb dX1_duel_89 hf (fun hf => ?_)
        obtain ⟨hg, hf⟩ := zk_gs hf
        have hV : W p l e zw_X1_duel_rm s m (zw_X1_duel_vs o p1 p2 p3).toArray below meth c H locs 0 0 (MQ below (zk_Q (some (zk_I r)) (fun t => va_P D zk_cl (zm_P o a dA σ') t.heap) A) (zw_X1_duel_vs o p1 p2 p3).toArray s 0 0 A) (F0 m 98 ls [zk_I (if (x4 % 2) = 0 then x1 else x2)]) := by
          refine zk_istoreN (lv' := fun x5_9 => [(5, zk_I x5_9), (0, .ref o), (1, zk_I x1), (2, zk_I x2), (4, zk_I x4)]) hx hb dX1_duel_98 hl (by decide) (fun _ => rfl) hf (fun x5_9 hf ls hl => ?_)
          refine zk_iload hx hb dX1_duel_100 (lv_at hl 4 rfl) ?_
          refine zk_iconst hx hb dX1_duel_102 ?_
          refine zk_rirem hx hb dX1_duel_103 hf (fun hf => ?_)
          obtain ⟨hg, hf⟩ := zk_gs hf
          have hV : W p l e zw_X1_duel_rm s m (zw_X1_duel_vs o p1 p2 p3).toArray below meth c H locs 0 0 (MQ below (zk_Q (some (zk_I r)) (fun t => va_P D zk_cl (zm_P o a dA σ') t.heap) A) (zw_X1_duel_vs o p1 p2 p3).toArray s 0 0 A) (F0 m 113 ls [zk_I (if (x4 % 2) = 0 then 7 else 1)]) := by
            refine zk_istoreN (lv' := fun x6_10 => [(6, zk_I x6_10), (5, zk_I x5_9), (0, .ref o), (1, zk_I x1), (2, zk_I x2), (4, zk_I x4)]) hx hb dX1_duel_113 hl (by decide) (fun _ => rfl) hf (fun x6_10 hf ls hl => ?_)
            refine zk_iconst hx hb dX1_duel_115 ?_
            refine lv_istore (lv' := [(7, zk_I 0), (6, zk_I x6_10), (5, zk_I x5_9), (0, .ref o), (1, zk_I x1), (2, zk_I x2), (4, zk_I x4)]) hx hb dX1_duel_116 hl (by decide) rfl (fun ls hl => ?_)
            exact hL118 N _ _ _ _ _ H locs ls hf (lv_sub hl [3, 4, 5, 6, 2, 1, 0] rfl) hP hS
          refine zk_if_neV (tgt := 112) hx hb dX1_duel_104 (by decide) ((fun h => h) hg) (fun hc => ?_) (fun hc => ?_)
          · rw [if_neg hc] at hV
            refine zk_iconst hx hb dX1_duel_112 ?_
            exact hV
          · rw [if_pos hc] at hV
            refine zk_bipush hx hb dX1_duel_107 (by decide) ?_
            refine lv_goto (tgt := 113) hx hb dX1_duel_109 (by decide) ?_
            exact hV
        refine zk_if_neV (tgt := 97) hx hb dX1_duel_90 (by decide) ((fun h => h) hg) (fun hc => ?_) (fun hc => ?_)
        · rw [if_neg hc] at hV
          refine zk_iloadn hx hb dX1_duel_97 rfl (lv_at hl 2 rfl) ?_
          exact hV
        · rw [if_pos hc] at hV
          refine zk_iloadn hx hb dX1_duel_93 rfl (lv_at hl 1 rfl) ?_
          refine lv_goto (tgt := 98) hx hb dX1_duel_94 (by decide) ?_
          exact hV
  have hJ74 : ∀ (x1 x2 x3 : Int) (s0 : ZS) (H : Heap) (locs : List Loc) (ls : Array Slot), zm_duel_j74 N x1 x2 x3 s0 = some (r, σ') → lv_has ls 12 [(0, .ref o), (1, zk_I x1), (2, zk_I x2), (3, zk_I x3)] → va_P D zk_cl (zm_P o a dA s0) H → va_S A s.heap H locs → W p l e zw_X1_duel_rm s m (zw_X1_duel_vs o p1 p2 p3).toArray below meth c H locs 0 0 (MQ below (zk_Q (some (zk_I r)) (fun t => va_P D zk_cl (zm_P o a dA σ') t.heap) A) (zw_X1_duel_vs o p1 p2 p3).toArray s 0 0 A) (F0 m 74 ls []) := by
    intro x1 x2 x3 s0 H locs ls hf hl hP hS
    refine zk_iconst hx hb dX1_duel_74 ?_
    refine zk_iloadn hx hb dX1_duel_75 rfl (lv_at hl 3 rfl) ?_
    refine zk_imul hx hb dX1_duel_76 ?_
    refine zk_iconst hx hb dX1_duel_77 ?_
    refine zk_isub hx hb dX1_duel_78 ?_
    refine zk_istoreN (lv' := fun x4_8 => [(4, zk_I x4_8), (0, .ref o), (1, zk_I x1), (2, zk_I x2), (3, zk_I x3)]) hx hb dX1_duel_79 hl (by decide) (fun _ => rfl) hf (fun x4_8 hf ls hl => ?_)
    exact hL81 N _ _ _ _ H locs ls hf (lv_sub hl [1, 2, 3, 0] rfl) hP hS
  have hL38 : ∀ (n : Nat) (x1 x2 x3 x4 : Int) (s0 : ZS) (H : Heap) (locs : List Loc) (ls : Array Slot), zk_b (zk_loop (α := Int × ZS) (β := ZS) n (fun a => zm_duel_b38 N x1 x2 x3 a.1 a.2) (x4, s0)) (fun e => zm_duel_j74 N x1 x2 x3 e) = some (r, σ') → lv_has ls 12 [(0, .ref o), (1, zk_I x1), (2, zk_I x2), (3, zk_I x3), (4, zk_I x4)] → va_P D zk_cl (zm_P o a dA s0) H → va_S A s.heap H locs → W p l e zw_X1_duel_rm s m (zw_X1_duel_vs o p1 p2 p3).toArray below meth c H locs 0 0 (MQ below (zk_Q (some (zk_I r)) (fun t => va_P D zk_cl (zm_P o a dA σ') t.heap) A) (zw_X1_duel_vs o p1 p2 p3).toArray s 0 0 A) (F0 m 38 ls []) := by
    intro n
    induction n with
    | zero => intro x1 x2 x3 x4 s0 H locs ls hf; exact (zk_l0 hf).elim
    | succ n ih38 =>
      intro x1 x2 x3 x4 s0 H locs ls hf hl hP hS
      obtain ⟨c38, hf, hc38⟩ := zk_ls hf
      refine zk_iload hx hb dX1_duel_38 (lv_at hl 4 rfl) ?_
      refine zk_bipush hx hb dX1_duel_40 (by decide) ?_
      refine zk_icmp_ge (tgt := 74) hx hb dX1_duel_42 (by decide) hf (fun h => ⟨h, by decide⟩) (fun hf => ?_) (fun hf => ?_)
      · obtain rfl := zk_so hf
        exact hJ74 _ _ _ _ H locs ls hc38 (lv_sub hl [0, 1, 2, 3] rfl) hP hS
      · refine lv_aload_n hx hb dX1_duel_45 rfl (lv_at hl 0 rfl) ?_
        refine zm_rget hx hb hts hown hK hP 21 (by decide) q970 rfl dX1_duel_46 ?_
        refine zk_iload hx hb dX1_duel_49 (lv_at hl 4 rfl) ?_
        refine lv_aload_n hx hb dX1_duel_51 rfl (lv_at hl 0 rfl) ?_
        refine zk_iloadn hx hb dX1_duel_52 rfl (lv_at hl 1 rfl) ?_
        refine zk_iloadn hx hb dX1_duel_53 rfl (lv_at hl 2 rfl) ?_
        refine zk_iload hx hb dX1_duel_54 (lv_at hl 4 rfl) ?_
        refine zk_bipush hx hb dX1_duel_56 (by decide) ?_
        refine zk_ridiv hx hb dX1_duel_58 hf (fun hf => ?_)
        refine zk_iload hx hb dX1_duel_59 (lv_at hl 4 rfl) ?_
        refine zk_bipush hx hb dX1_duel_61 (by decide) ?_
        refine zk_rirem hx hb dX1_duel_63 hf (fun hf => ?_)
        obtain ⟨v4, s5, hq, hf⟩ := zk_b2s hf
        refine zk_callVW (As := [zk_I x1, zk_I x2, zk_I (x4 / 7), zk_I (x4 % 7)]) (rest := [zk_I x4, .ref (a 21)]) ⟨hx, hb, hml, hown, hts⟩ (zw_X1_comes l hD N x1 x2 (x4 / 7) (x4 % 7) s0 _ _ hq) (cwV 4 hts (lw_V q1320 q1322 qs76 q88 q1323) rfl rfl rfl (by decide +kernel) ⟨Nat.le_of_ble_eq_true rfl, Nat.le_of_ble_eq_true rfl⟩) hKX hP hS (va_recv hK hP (ci := 1) (q0 := 0) rfl rfl) rfl hl.1 rfl (Nat.le_of_ble_eq_true rfl) dX1_duel_64 ⟨Nat.le_of_ble_eq_true rfl, Nat.le_of_ble_eq_true rfl⟩ (fun H locs hP hS => ?_)
        refine zk_iastN hx hb hK hP hD hS 12 0 21 rfl rfl (N := 49) ⟨by decide, by decide⟩ (zm_t21 _ _ _) hf dX1_duel_67 (fun s6 H locs hf hP hS => ?_)
        refine zk_iincN (lv' := fun x4_7 => [(4, zk_I x4_7), (0, .ref o), (1, zk_I x1), (2, zk_I x2), (3, zk_I x3)]) hx hb dX1_duel_68 hl (k := 4) rfl (by decide) (fun _ => rfl) hf (fun x4_7 hf ls hl => ?_)
        refine lv_goto (tgt := 38) hx hb dX1_duel_71 (by decide) ?_
        obtain rfl := zk_so hf
        exact ih38 _ _ _ _ _ H locs ls hc38 (lv_sub hl [1, 2, 3, 4, 0] rfl) hP hS
  refine lv_aload_n hx hb dX1_duel_0 rfl (lv_at hl 0 rfl) ?_
  refine zk_iloadn hx hb dX1_duel_1 rfl (lv_at hl 1 rfl) ?_
  obtain ⟨v1, hq, hf⟩ := zk_bs hf
  refine zk_callVR (As := [zk_I p1]) (rest := []) ⟨hx, hb, hml, hown, hts⟩ (zw_X1_isOne l p1 σ _ hq) (cwV 1 hts (lw_V q1127 q1129 qs52 q88 q1130) rfl rfl rfl (by decide +kernel) ⟨Nat.le_of_ble_eq_true rfl, Nat.le_of_ble_eq_true rfl⟩) hKX hP hS (va_recv hK hP (ci := 1) (q0 := 0) rfl rfl) rfl hl.1 rfl (Nat.le_of_ble_eq_true rfl) dX1_duel_2 ⟨Nat.le_of_ble_eq_true rfl, Nat.le_of_ble_eq_true rfl⟩ (fun H locs hP hS => ?_)
  refine zk_if_eq (tgt := 33) hx hb dX1_duel_5 (by decide) hf (fun h => h) (fun hf => ?_) (fun hf => ?_)
  · refine zk_iconst hx hb dX1_duel_33 ?_
    exact zk_iret hx hb hr hlk (zk_p1 hf) (zk_pB hf hP) hS dX1_duel_34
  · refine lv_aload_n hx hb dX1_duel_8 rfl (lv_at hl 0 rfl) ?_
    refine zk_iloadn hx hb dX1_duel_9 rfl (lv_at hl 2 rfl) ?_
    obtain ⟨v2, hq, hf⟩ := zk_bs hf
    refine zk_callVR (As := [zk_I p2]) (rest := []) ⟨hx, hb, hml, hown, hts⟩ (zw_X1_isOne l p2 σ _ hq) (cwV 1 hts (lw_V q1127 q1129 qs52 q88 q1130) rfl rfl rfl (by decide +kernel) ⟨Nat.le_of_ble_eq_true rfl, Nat.le_of_ble_eq_true rfl⟩) hKX hP hS (va_recv hK hP (ci := 1) (q0 := 0) rfl rfl) rfl hl.1 rfl (Nat.le_of_ble_eq_true rfl) dX1_duel_10 ⟨Nat.le_of_ble_eq_true rfl, Nat.le_of_ble_eq_true rfl⟩ (fun H locs hP hS => ?_)
    refine zk_if_eq (tgt := 33) hx hb dX1_duel_13 (by decide) hf (fun h => h) (fun hf => ?_) (fun hf => ?_)
    · refine zk_iconst hx hb dX1_duel_33 ?_
      exact zk_iret hx hb hr hlk (zk_p1 hf) (zk_pB hf hP) hS dX1_duel_34
    · refine zk_iloadn hx hb dX1_duel_16 rfl (lv_at hl 1 rfl) ?_
      refine zk_iloadn hx hb dX1_duel_17 rfl (lv_at hl 2 rfl) ?_
      refine zk_icmp_eq (tgt := 33) hx hb dX1_duel_18 (by decide) hf (fun h => h) (fun hf => ?_) (fun hf => ?_)
      · refine zk_iconst hx hb dX1_duel_33 ?_
        exact zk_iret hx hb hr hlk (zk_p1 hf) (zk_pB hf hP) hS dX1_duel_34
      · refine zk_iloadn hx hb dX1_duel_21 rfl (lv_at hl 3 rfl) ?_
        refine zk_ri2l hx hb dX1_duel_22 hf (fun hf => ?_)
        refine zk_lconst (v := 0) hx hb dX1_duel_23 rfl ?_
        refine zk_ldc2 hx hb 3 hown (hts _ q1077) rfl dX1_duel_24 ?_
        obtain ⟨v3, hq, hf⟩ := zk_bs hf
        refine zk_callSS (As := [zk_L p3, zk_L 0, zk_L 3]) (rest := []) ⟨hx, hb, hml, hown, hts⟩ (zw_X1_in l p3 0 3 _ hq) (va_cwS 3 hts (lw_S q1027 q1028 q88 q1029) rfl rfl rfl (by decide +kernel) ⟨Nat.le_of_ble_eq_true rfl, Nat.le_of_ble_eq_true rfl⟩) hP hS rfl hl.1 rfl (Nat.le_of_ble_eq_true rfl) dX1_duel_27 ⟨Nat.le_of_ble_eq_true rfl, Nat.le_of_ble_eq_true rfl⟩ (fun H locs hP hS => ?_)
        refine zk_if_ne (tgt := 35) hx hb dX1_duel_30 (by decide) hf (fun h => h) (fun hf => ?_) (fun hf => ?_)
        · refine zk_iconst hx hb dX1_duel_35 ?_
          refine lv_istore (lv' := [(4, zk_I 0), (0, .ref o), (1, zk_I p1), (2, zk_I p2), (3, zk_I p3)]) hx hb dX1_duel_36 hl (by decide) rfl (fun ls hl => ?_)
          exact hL38 N _ _ _ _ _ H locs ls hf (lv_sub hl [1, 2, 3, 4, 0] rfl) hP hS
        · refine zk_iconst hx hb dX1_duel_33 ?_
          exact zk_iret hx hb hr hlk (zk_p1 hf) (zk_pB hf hP) hS dX1_duel_34
abbrev zw_X1_chancesOf_rm : Room := { frames := 2, cells := 0, slots := 0, locals := 53 }
abbrev zw_X1_chancesOf_vs (o : Nat) (p1 p2 : Int) : List Value := [.ref o, zk_I p1, zk_I p2]
set_option maxHeartbeats 4000000 in
set_option maxRecDepth 100000 in
theorem zw_X1_chancesOf (l : Launch) {D : va_G} {o : Nat} {a : Nat → Nat} {dA : Nat → ClassId} (N : Nat) (p1 p2 : Int) (σ : ZS) (r : Int) (hf : zm_chancesOf N p1 p2 σ = some r) : zk_MR l yX1_chancesOf (ws_ yX1_chancesOf cX1_chancesOf 6 (Option.some Jvm.ClassFile.FieldType.long)) zw_X1_chancesOf_rm D zk_cl (zk_ty dA) (zw_X1_chancesOf_vs o p1 p2) (zm_P o a dA σ) (some (zk_L r)) := by
  refine zk_startW (by decide +kernel) (Nat.le_of_ble_eq_true rfl) (fun p e s m below meth c H locs ls hx hb hr hlk hml hown hts hKX hP hS hl => ?_)
  have hl : lv_has ls 6 [(0, .ref o), (1, zk_I p1), (2, zk_I p2)] := hl
  have hK := hKX.1
  have hown : s.vm.findClass RX1 = some m.cls := hown
  have hf : zm_chancesOf N p1 p2 σ = some r := hf
  have hJ42 : ∀ (x3 : Int) (H : Heap) (locs : List Loc) (ls : Array Slot), zm_chancesOf_j42 N x3 σ = some r → lv_has ls 6 [(3, zk_L x3)] → va_P D zk_cl (zm_P o a dA σ) H → va_S (fun _ => False) s.heap H locs → W p l e zw_X1_chancesOf_rm s m (zw_X1_chancesOf_vs o p1 p2).toArray below meth c H locs 0 0 (MQ below (zk_Q (some (zk_L r)) (fun _ => True) (fun _ => False)) (zw_X1_chancesOf_vs o p1 p2).toArray s 0 0 (fun _ => False)) (F0 m 42 ls []) := by
    intro x3 H locs ls hf hl hP hS
    refine zk_lloadn hx hb dX1_chancesOf_42 rfl (lv_at hl 0 rfl) ?_
    exact zk_lret hx hb hr hlk (Option.some.inj hf) (fun _ _ => trivial) hS dX1_chancesOf_43
  have hL5 : ∀ (n : Nat) (x1 x2 x3 x5 : Int) (H : Heap) (locs : List Loc) (ls : Array Slot), zk_b (zk_loop (α := Int × Int) (β := Int) n (fun a => zm_chancesOf_b5 N x1 x2 a.1 a.2 σ) (x3, x5)) (fun e => zm_chancesOf_j42 N e σ) = some r → lv_has ls 6 [(0, .ref o), (1, zk_I x1), (2, zk_I x2), (3, zk_L x3), (5, zk_I x5)] → va_P D zk_cl (zm_P o a dA σ) H → va_S (fun _ => False) s.heap H locs → W p l e zw_X1_chancesOf_rm s m (zw_X1_chancesOf_vs o p1 p2).toArray below meth c H locs 0 0 (MQ below (zk_Q (some (zk_L r)) (fun _ => True) (fun _ => False)) (zw_X1_chancesOf_vs o p1 p2).toArray s 0 0 (fun _ => False)) (F0 m 5 ls []) := by
    intro n
    induction n with
    | zero => intro x1 x2 x3 x5 H locs ls hf; exact (zk_l0 hf).elim
    | succ n ih5 =>
      intro x1 x2 x3 x5 H locs ls hf hl hP hS
      obtain ⟨c5, hf, hc5⟩ := zk_ls hf
      have hJ34 : ∀ (x5 y0 y1 : Int) (H : Heap) (locs : List Loc) (ls : Array Slot), zm_chancesOf_j34 N x1 x2 x5 y0 y1 σ = some c5 → lv_has ls 6 [(0, .ref o), (1, zk_I x1), (2, zk_I x2), (5, zk_I x5)] → va_P D zk_cl (zm_P o a dA σ) H → va_S (fun _ => False) s.heap H locs → W p l e zw_X1_chancesOf_rm s m (zw_X1_chancesOf_vs o p1 p2).toArray below meth c H locs 0 0 (MQ below (zk_Q (some (zk_L r)) (fun _ => True) (fun _ => False)) (zw_X1_chancesOf_vs o p1 p2).toArray s 0 0 (fun _ => False)) (F0 m 34 ls [zk_L y1, zk_L y0]) := by
        intro x5 y0 y1 H locs ls hf hl hP hS
        refine zk_lmul hx hb dX1_chancesOf_34 ?_
        refine zk_lstorenN (lv' := fun x3_2 => [(3, zk_L x3_2), (0, .ref o), (1, zk_I x1), (2, zk_I x2), (5, zk_I x5)]) hx hb dX1_chancesOf_35 rfl hl (by decide) (fun _ => rfl) hf (fun x3_2 hf ls hl => ?_)
        refine zk_iincN (lv' := fun x5_3 => [(5, zk_I x5_3), (3, zk_L x3_2), (0, .ref o), (1, zk_I x1), (2, zk_I x2)]) hx hb dX1_chancesOf_36 hl (k := 4) rfl (by decide) (fun _ => rfl) hf (fun x5_3 hf ls hl => ?_)
        refine lv_goto (tgt := 5) hx hb dX1_chancesOf_39 (by decide) ?_
        obtain rfl := zk_so hf
        exact ih5 _ _ _ _ H locs ls hc5 (lv_sub hl [2, 3, 4, 1, 0] rfl) hP hS
      refine zk_iload hx hb dX1_chancesOf_5 (lv_at hl 4 rfl) ?_
      refine lv_aload_n hx hb dX1_chancesOf_7 rfl (lv_at hl 0 rfl) ?_
      refine zm_rget hx hb hts hown hK hP 1 (by decide) q950 rfl dX1_chancesOf_8 ?_
      refine zk_icmp_ge (tgt := 42) hx hb dX1_chancesOf_11 (by decide) hf (fun h => h) (fun hf => ?_) (fun hf => ?_)
      · obtain rfl := zk_so hf
        exact hJ42 _ H locs ls hc5 (lv_sub hl [3] rfl) hP hS
      · refine zk_lloadn hx hb dX1_chancesOf_14 rfl (lv_at hl 3 rfl) ?_
        refine zk_iloadn hx hb dX1_chancesOf_15 rfl (lv_at hl 1 rfl) ?_
        refine zk_iload hx hb dX1_chancesOf_16 (lv_at hl 4 rfl) ?_
        obtain ⟨v1, hq, hf⟩ := zk_bs hf
        refine zk_callSS (As := [zk_I x1, zk_I x5]) (rest := [zk_L x3]) ⟨hx, hb, hml, hown, hts⟩ (zw_X1_has l x1 x5 _ hq) (va_cwS 2 hts (lw_S q1177 q1178 q88 q1179) rfl rfl rfl (by decide +kernel) ⟨Nat.le_of_ble_eq_true rfl, Nat.le_of_ble_eq_true rfl⟩) hP hS rfl hl.1 rfl (Nat.le_of_ble_eq_true rfl) dX1_chancesOf_18 ⟨Nat.le_of_ble_eq_true rfl, Nat.le_of_ble_eq_true rfl⟩ (fun H locs hP hS => ?_)
        refine zk_if_eq (tgt := 29) hx hb dX1_chancesOf_21 (by decide) hf (fun h => h) (fun hf => ?_) (fun hf => ?_)
        · refine zk_bipush hx hb dX1_chancesOf_29 (by decide) ?_
          refine zk_iloadn hx hb dX1_chancesOf_31 rfl (lv_at hl 2 rfl) ?_
          refine zk_isub hx hb dX1_chancesOf_32 ?_
          refine zk_ri2l hx hb dX1_chancesOf_33 hf (fun hf => ?_)
          exact hJ34 _ _ _ H locs ls hf (lv_sub hl [0, 1, 2, 4] rfl) hP hS
        · refine zk_iloadn hx hb dX1_chancesOf_24 rfl (lv_at hl 2 rfl) ?_
          refine zk_ri2l hx hb dX1_chancesOf_25 hf (fun hf => ?_)
          refine lv_goto (tgt := 34) hx hb dX1_chancesOf_26 (by decide) ?_
          exact hJ34 _ _ _ H locs ls hf (lv_sub hl [0, 1, 2, 4] rfl) hP hS
  refine zk_lconst (v := 1) hx hb dX1_chancesOf_0 rfl ?_
  refine lv_lstore_n (lv' := [(3, zk_L 1), (0, .ref o), (1, zk_I p1), (2, zk_I p2)]) hx hb dX1_chancesOf_1 rfl hl (by decide) rfl (fun ls hl => ?_)
  refine zk_iconst hx hb dX1_chancesOf_2 ?_
  refine lv_istore (lv' := [(5, zk_I 0), (3, zk_L 1), (0, .ref o), (1, zk_I p1), (2, zk_I p2)]) hx hb dX1_chancesOf_3 hl (by decide) rfl (fun ls hl => ?_)
  exact hL5 N _ _ _ _ H locs ls hf (lv_sub hl [2, 3, 4, 1, 0] rfl) hP hS
abbrev zw_X1_tellParts_rm : Room := { frames := 1, cells := 0, slots := 0, locals := 32 }
abbrev zw_X1_tellParts_vs (o : Nat) (p1 p3 : Int) : List Value := [.ref o, zk_L p1, zk_L p3]
set_option maxHeartbeats 4000000 in
set_option maxRecDepth 100000 in
theorem zw_X1_tellParts (l : Launch) {D : va_G} {o : Nat} {a : Nat → Nat} {dA : Nat → ClassId} {A : Nat → Prop} (hD : ∀ τ, va_D A (zm_P o a dA τ)) (N : Nat) (p1 p3 : Int) (σ : ZS) (r : Int) (σ' : ZS) (hf : zm_tellParts N p1 p3 σ = some (r, σ')) : zk_MW l yX1_tellParts (ws_ yX1_tellParts cX1_tellParts 11 (Option.none : Option Jvm.ClassFile.FieldType)) zw_X1_tellParts_rm D zk_cl (zk_ty dA) A (zw_X1_tellParts_vs o p1 p3) (zm_P o a dA σ) (zm_P o a dA σ') none := by
  refine zk_startW (by decide +kernel) (Nat.le_of_ble_eq_true rfl) (fun p e s m below meth c H locs ls hx hb hr hlk hml hown hts hKX hP hS hl => ?_)
  have hl : lv_has ls 11 [(0, .ref o), (1, zk_L p1), (3, zk_L p3)] := hl
  have hK := hKX.1
  have hown : s.vm.findClass RX1 = some m.cls := hown
  have hf : zm_tellParts N p1 p3 σ = some (r, σ') := hf
  have hJ31 : ∀ (x1 x3 x5 : Int) (s0 : ZS) (H : Heap) (locs : List Loc) (ls : Array Slot), zm_tellParts_j31 N x1 x3 x5 s0 = some (r, σ') → lv_has ls 11 [(0, .ref o), (1, zk_L x1), (3, zk_L x3), (5, zk_L x5)] → va_P D zk_cl (zm_P o a dA s0) H → va_S A s.heap H locs → W p l e zw_X1_tellParts_rm s m (zw_X1_tellParts_vs o p1 p3).toArray below meth c H locs 0 0 (MQ below (zk_Q none (fun t => va_P D zk_cl (zm_P o a dA σ') t.heap) A) (zw_X1_tellParts_vs o p1 p3).toArray s 0 0 A) (F0 m 31 ls []) := by
    intro x1 x3 x5 s0 H locs ls hf hl hP hS
    refine lv_aload_n hx hb dX1_tellParts_31 rfl (lv_at hl 0 rfl) ?_
    refine zk_lloadn hx hb dX1_tellParts_32 rfl (lv_at hl 1 rfl) ?_
    refine zk_lload hx hb dX1_tellParts_33 (lv_at hl 3 rfl) ?_
    refine zk_rldiv hx hb dX1_tellParts_35 hf (fun hf => ?_)
    refine zm_rput hx hb hts hown hK hP hD hS 8 (by decide) q957 rfl rfl rfl (zm_s8 _ _) hf dX1_tellParts_36 (fun s2 H locs hf hP hS => ?_)
    refine lv_aload_n hx hb dX1_tellParts_39 rfl (lv_at hl 0 rfl) ?_
    refine zk_lloadn hx hb dX1_tellParts_40 rfl (lv_at hl 2 rfl) ?_
    refine zk_lload hx hb dX1_tellParts_41 (lv_at hl 3 rfl) ?_
    refine zk_rldiv hx hb dX1_tellParts_43 hf (fun hf => ?_)
    refine zm_rput hx hb hts hown hK hP hD hS 9 (by decide) q958 rfl rfl rfl (zm_s9 _ _) hf dX1_tellParts_44 (fun s3 H locs hf hP hS => ?_)
    exact zk_vret hx hb hr hlk (zk_pB hf hP) hS dX1_tellParts_47
  have hL6 : ∀ (n : Nat) (x1 x3 x5 x7 : Int) (s0 : ZS) (H : Heap) (locs : List Loc) (ls : Array Slot), zk_b (zk_loop (α := Int × Int) (β := Int) n (fun a => zm_tellParts_b6 N x1 x3 a.1 a.2 s0) (x5, x7)) (fun e => zm_tellParts_j31 N x1 x3 e s0) = some (r, σ') → lv_has ls 11 [(0, .ref o), (1, zk_L x1), (3, zk_L x3), (5, zk_L x5), (7, zk_L x7)] → va_P D zk_cl (zm_P o a dA s0) H → va_S A s.heap H locs → W p l e zw_X1_tellParts_rm s m (zw_X1_tellParts_vs o p1 p3).toArray below meth c H locs 0 0 (MQ below (zk_Q none (fun t => va_P D zk_cl (zm_P o a dA σ') t.heap) A) (zw_X1_tellParts_vs o p1 p3).toArray s 0 0 A) (F0 m 6 ls []) := by
    intro n
    induction n with
    | zero => intro x1 x3 x5 x7 s0 H locs ls hf; exact (zk_l0 hf).elim
    | succ n ih6 =>
      intro x1 x3 x5 x7 s0 H locs ls hf hl hP hS
      obtain ⟨c6, hf, hc6⟩ := zk_ls hf
      refine zk_lload hx hb dX1_tellParts_6 (lv_at hl 4 rfl) ?_
      refine zk_lconst (v := 0) hx hb dX1_tellParts_8 rfl ?_
      refine zk_lcmp_eq (tgt := 31) hx hb dX1_tellParts_9 dX1_tellParts_10 (by decide) hf (fun h => ⟨h, by decide⟩) (fun hf => ?_) (fun hf => ?_)
      · obtain rfl := zk_so hf
        exact hJ31 _ _ _ _ H locs ls hc6 (lv_sub hl [0, 1, 2, 3] rfl) hP hS
      · refine zk_lload hx hb dX1_tellParts_13 (lv_at hl 3 rfl) ?_
        refine zk_lload hx hb dX1_tellParts_15 (lv_at hl 4 rfl) ?_
        refine zk_rlrem hx hb dX1_tellParts_17 hf (fun hf => ?_)
        refine zk_lstoreN (lv' := fun x9_1 => [(9, zk_L x9_1), (0, .ref o), (1, zk_L x1), (3, zk_L x3), (5, zk_L x5), (7, zk_L x7)]) hx hb dX1_tellParts_18 hl (by decide) (fun _ => rfl) hf (fun x9_1 hf ls hl => ?_)
        refine zk_lload hx hb dX1_tellParts_20 (lv_at hl 5 rfl) ?_
        refine lv_lstore (lv' := [(5, zk_L x7), (9, zk_L x9_1), (0, .ref o), (1, zk_L x1), (3, zk_L x3), (7, zk_L x7)]) hx hb dX1_tellParts_22 hl (by decide) rfl (fun ls hl => ?_)
        refine zk_lload hx hb dX1_tellParts_24 (lv_at hl 1 rfl) ?_
        refine lv_lstore (lv' := [(7, zk_L x9_1), (5, zk_L x7), (9, zk_L x9_1), (0, .ref o), (1, zk_L x1), (3, zk_L x3)]) hx hb dX1_tellParts_26 hl (by decide) rfl (fun ls hl => ?_)
        refine lv_goto (tgt := 6) hx hb dX1_tellParts_28 (by decide) ?_
        obtain rfl := zk_so hf
        exact ih6 _ _ _ _ _ H locs ls hc6 (lv_sub hl [3, 4, 5, 1, 0] rfl) hP hS
  refine zk_lloadn hx hb dX1_tellParts_0 rfl (lv_at hl 1 rfl) ?_
  refine lv_lstore (lv' := [(5, zk_L p1), (0, .ref o), (1, zk_L p1), (3, zk_L p3)]) hx hb dX1_tellParts_1 hl (by decide) rfl (fun ls hl => ?_)
  refine zk_lloadn hx hb dX1_tellParts_3 rfl (lv_at hl 3 rfl) ?_
  refine lv_lstore (lv' := [(7, zk_L p3), (5, zk_L p1), (0, .ref o), (1, zk_L p1), (3, zk_L p3)]) hx hb dX1_tellParts_4 hl (by decide) rfl (fun ls hl => ?_)
  exact hL6 N _ _ _ _ _ H locs ls hf (lv_sub hl [2, 3, 4, 1, 0] rfl) hP hS
abbrev zw_X1_odds_rm : Room := { frames := 5, cells := 0, slots := 0, locals := 124 }
abbrev zw_X1_odds_vs (o : Nat) (p1 p2 : Int) : List Value := [.ref o, zk_I p1, zk_I p2]
set_option maxHeartbeats 4000000 in
set_option maxRecDepth 100000 in
theorem zw_X1_odds (l : Launch) {D : va_G} {o : Nat} {a : Nat → Nat} {dA : Nat → ClassId} {A : Nat → Prop} (hD : ∀ τ, va_D A (zm_P o a dA τ)) (N : Nat) (p1 p2 : Int) (σ : ZS) (r : Int) (σ' : ZS) (hf : zm_odds N p1 p2 σ = some (r, σ')) : zk_MW l yX1_odds (ws_ yX1_odds cX1_odds 10 (Option.some Jvm.ClassFile.FieldType.int)) zw_X1_odds_rm D zk_cl (zk_ty dA) A (zw_X1_odds_vs o p1 p2) (zm_P o a dA σ) (zm_P o a dA σ') (some (zk_I r)) := by
  refine zk_startW (by decide +kernel) (Nat.le_of_ble_eq_true rfl) (fun p e s m below meth c H locs ls hx hb hr hlk hml hown hts hKX hP hS hl => ?_)
  have hl : lv_has ls 10 [(0, .ref o), (1, zk_I p1), (2, zk_I p2)] := hl
  have hK := hKX.1
  have hown : s.vm.findClass RX1 = some m.cls := hown
  have hf : zm_odds N p1 p2 σ = some (r, σ') := hf
  have hJ83 : ∀ (x3 x5 : Int) (s0 : ZS) (H : Heap) (locs : List Loc) (ls : Array Slot), zm_odds_j83 N x3 x5 s0 = some (r, σ') → lv_has ls 10 [(0, .ref o), (3, zk_L x3), (5, zk_L x5)] → va_P D zk_cl (zm_P o a dA s0) H → va_S A s.heap H locs → W p l e zw_X1_odds_rm s m (zw_X1_odds_vs o p1 p2).toArray below meth c H locs 0 0 (MQ below (zk_Q (some (zk_I r)) (fun t => va_P D zk_cl (zm_P o a dA σ') t.heap) A) (zw_X1_odds_vs o p1 p2).toArray s 0 0 A) (F0 m 83 ls []) := by
    intro x3 x5 s0 H locs ls hf hl hP hS
    refine lv_aload_n hx hb dX1_odds_83 rfl (lv_at hl 0 rfl) ?_
    refine zk_lloadn hx hb dX1_odds_84 rfl (lv_at hl 1 rfl) ?_
    refine zk_lload hx hb dX1_odds_85 (lv_at hl 2 rfl) ?_
    obtain ⟨v8, s9, hq, hf⟩ := zk_b2s hf
    refine zk_callVW (As := [zk_L x3, zk_L x5]) (rest := []) ⟨hx, hb, hml, hown, hts⟩ (zw_X1_tellParts l hD N x3 x5 s0 _ _ hq) (cwV 2 hts (lw_V q1337 q1339 qs79 q88 q1340) rfl rfl rfl (by decide +kernel) ⟨Nat.le_of_ble_eq_true rfl, Nat.le_of_ble_eq_true rfl⟩) hKX hP hS (va_recv hK hP (ci := 1) (q0 := 0) rfl rfl) rfl hl.1 rfl (Nat.le_of_ble_eq_true rfl) dX1_odds_87 ⟨Nat.le_of_ble_eq_true rfl, Nat.le_of_ble_eq_true rfl⟩ (fun H locs hP hS => ?_)
    refine zk_iconst hx hb dX1_odds_90 ?_
    exact zk_iret hx hb hr hlk (zk_p1 hf) (zk_pB hf hP) hS dX1_odds_91
  have hL30 : ∀ (n : Nat) (x1 x2 x3 x5 x7 : Int) (s0 : ZS) (H : Heap) (locs : List Loc) (ls : Array Slot), zk_b (zk_loop (α := Int × Int × Int) (β := Int × Int) n (fun a => zm_odds_b30 N x1 x2 a.1 a.2.1 a.2.2 s0) (x3, x5, x7)) (fun e => zm_odds_j83 N e.1 e.2 s0) = some (r, σ') → lv_has ls 10 [(0, .ref o), (1, zk_I x1), (2, zk_I x2), (3, zk_L x3), (5, zk_L x5), (7, zk_I x7)] → va_P D zk_cl (zm_P o a dA s0) H → va_S A s.heap H locs → W p l e zw_X1_odds_rm s m (zw_X1_odds_vs o p1 p2).toArray below meth c H locs 0 0 (MQ below (zk_Q (some (zk_I r)) (fun t => va_P D zk_cl (zm_P o a dA σ') t.heap) A) (zw_X1_odds_vs o p1 p2).toArray s 0 0 A) (F0 m 30 ls []) := by
    intro n
    induction n with
    | zero => intro x1 x2 x3 x5 x7 s0 H locs ls hf; exact (zk_l0 hf).elim
    | succ n ih30 =>
      intro x1 x2 x3 x5 x7 s0 H locs ls hf hl hP hS
      obtain ⟨c30, hf, hc30⟩ := zk_ls hf
      refine zk_iload hx hb dX1_odds_30 (lv_at hl 5 rfl) ?_
      refine zk_iconst hx hb dX1_odds_32 ?_
      refine lv_aload_n hx hb dX1_odds_33 rfl (lv_at hl 0 rfl) ?_
      refine zm_rget hx hb hts hown hK hP 1 (by decide) q950 rfl dX1_odds_34 ?_
      refine zk_rishl hx hb dX1_odds_37 hf (fun hf => ?_)
      refine zk_icmp_ge (tgt := 83) hx hb dX1_odds_38 (by decide) hf (fun h => h) (fun hf => ?_) (fun hf => ?_)
      · obtain rfl := zk_so hf
        exact hJ83 _ _ _ H locs ls hc30 (lv_sub hl [0, 3, 4] rfl) hP hS
      · refine lv_aload_n hx hb dX1_odds_41 rfl (lv_at hl 0 rfl) ?_
        refine zk_iload hx hb dX1_odds_42 (lv_at hl 5 rfl) ?_
        refine zk_iloadn hx hb dX1_odds_44 rfl (lv_at hl 2 rfl) ?_
        obtain ⟨v3, hq, hf⟩ := zk_bs hf
        refine zk_callVR (As := [zk_I x7, zk_I x2]) (rest := []) ⟨hx, hb, hml, hown, hts⟩ (zw_X1_chancesOf l N x7 x2 s0 _ hq) (cwV 2 hts (lw_V q1333 q1335 qs78 q88 q1336) rfl rfl rfl (by decide +kernel) ⟨Nat.le_of_ble_eq_true rfl, Nat.le_of_ble_eq_true rfl⟩) hKX hP hS (va_recv hK hP (ci := 1) (q0 := 0) rfl rfl) rfl hl.1 rfl (Nat.le_of_ble_eq_true rfl) dX1_odds_45 ⟨Nat.le_of_ble_eq_true rfl, Nat.le_of_ble_eq_true rfl⟩ (fun H locs hP hS => ?_)
        refine lv_lstore (lv' := [(8, zk_L v3), (0, .ref o), (1, zk_I x1), (2, zk_I x2), (3, zk_L x3), (5, zk_L x5), (7, zk_I x7)]) hx hb dX1_odds_48 hl (by decide) rfl (fun ls hl => ?_)
        refine zk_lloadn hx hb dX1_odds_50 rfl (lv_at hl 4 rfl) ?_
        refine lv_aload_n hx hb dX1_odds_51 rfl (lv_at hl 1 rfl) ?_
        refine zk_iconst hx hb dX1_odds_52 ?_
        refine zk_iload hx hb dX1_odds_53 (lv_at hl 6 rfl) ?_
        obtain ⟨v4, hq, hf⟩ := zk_bs hf
        refine zk_callVR (As := [zk_I 0, zk_I x7]) (rest := [zk_L x3]) ⟨hx, hb, hml, hown, hts⟩ (zw_X1_boldest l N 0 x7 s0 _ hq) (cwV 2 hts (lw_V q1173 q1175 qs60 q88 q1176) rfl rfl rfl (by decide +kernel) ⟨Nat.le_of_ble_eq_true rfl, Nat.le_of_ble_eq_true rfl⟩) hKX hP hS (va_recv hK hP (ci := 1) (q0 := 0) rfl rfl) rfl hl.1 rfl (Nat.le_of_ble_eq_true rfl) dX1_odds_55 ⟨Nat.le_of_ble_eq_true rfl, Nat.le_of_ble_eq_true rfl⟩ (fun H locs hP hS => ?_)
        refine zk_iloadn hx hb dX1_odds_58 rfl (lv_at hl 2 rfl) ?_
        obtain ⟨hg, hf⟩ := zk_gs hf
        have hV : W p l e zw_X1_odds_rm s m (zw_X1_odds_vs o p1 p2).toArray below meth c H locs 0 0 (MQ below (zk_Q (some (zk_I r)) (fun t => va_P D zk_cl (zm_P o a dA σ') t.heap) A) (zw_X1_odds_vs o p1 p2).toArray s 0 0 A) (F0 m 68 ls [zk_L (if v4 = x1 then v3 else 0), zk_L x3]) := by
          refine zk_ladd hx hb dX1_odds_68 ?_
          refine zk_lstorenN (lv' := fun x3_5 => [(3, zk_L x3_5), (8, zk_L v3), (0, .ref o), (1, zk_I x1), (2, zk_I x2), (5, zk_L x5), (7, zk_I x7)]) hx hb dX1_odds_69 rfl hl (by decide) (fun _ => rfl) hf (fun x3_5 hf ls hl => ?_)
          refine zk_lload hx hb dX1_odds_70 (lv_at hl 5 rfl) ?_
          refine zk_lload hx hb dX1_odds_72 (lv_at hl 1 rfl) ?_
          refine zk_ladd hx hb dX1_odds_74 ?_
          refine zk_lstoreN (lv' := fun x5_6 => [(5, zk_L x5_6), (3, zk_L x3_5), (8, zk_L v3), (0, .ref o), (1, zk_I x1), (2, zk_I x2), (7, zk_I x7)]) hx hb dX1_odds_75 hl (by decide) (fun _ => rfl) hf (fun x5_6 hf ls hl => ?_)
          refine zk_iincN (lv' := fun x7_7 => [(7, zk_I x7_7), (5, zk_L x5_6), (3, zk_L x3_5), (8, zk_L v3), (0, .ref o), (1, zk_I x1), (2, zk_I x2)]) hx hb dX1_odds_77 hl (k := 6) rfl (by decide) (fun _ => rfl) hf (fun x7_7 hf ls hl => ?_)
          refine lv_goto (tgt := 30) hx hb dX1_odds_80 (by decide) ?_
          obtain rfl := zk_so hf
          exact ih30 _ _ _ _ _ _ H locs ls hc30 (lv_sub hl [4, 5, 6, 2, 1, 0] rfl) hP hS
        refine zk_icmp_neV (tgt := 67) hx hb dX1_odds_59 (by decide) ((fun h => h) hg) (fun hc => ?_) (fun hc => ?_)
        · rw [if_neg hc] at hV
          refine zk_lconst (v := 0) hx hb dX1_odds_67 rfl ?_
          exact hV
        · rw [if_pos hc] at hV
          refine zk_lload hx hb dX1_odds_62 (lv_at hl 0 rfl) ?_
          refine lv_goto (tgt := 68) hx hb dX1_odds_64 (by decide) ?_
          exact hV
  refine lv_aload_n hx hb dX1_odds_0 rfl (lv_at hl 0 rfl) ?_
  refine zk_iloadn hx hb dX1_odds_1 rfl (lv_at hl 1 rfl) ?_
  obtain ⟨v1, hq, hf⟩ := zk_bs hf
  refine zk_callVR (As := [zk_I p1]) (rest := []) ⟨hx, hb, hml, hown, hts⟩ (zw_X1_isOne l p1 σ _ hq) (cwV 1 hts (lw_V q1127 q1129 qs52 q88 q1130) rfl rfl rfl (by decide +kernel) ⟨Nat.le_of_ble_eq_true rfl, Nat.le_of_ble_eq_true rfl⟩) hKX hP hS (va_recv hK hP (ci := 1) (q0 := 0) rfl rfl) rfl hl.1 rfl (Nat.le_of_ble_eq_true rfl) dX1_odds_2 ⟨Nat.le_of_ble_eq_true rfl, Nat.le_of_ble_eq_true rfl⟩ (fun H locs hP hS => ?_)
  refine zk_if_eq (tgt := 20) hx hb dX1_odds_5 (by decide) hf (fun h => h) (fun hf => ?_) (fun hf => ?_)
  · refine zk_iconst hx hb dX1_odds_20 ?_
    exact zk_iret hx hb hr hlk (zk_p1 hf) (zk_pB hf hP) hS dX1_odds_21
  · refine zk_iloadn hx hb dX1_odds_8 rfl (lv_at hl 2 rfl) ?_
    refine zk_ri2l hx hb dX1_odds_9 hf (fun hf => ?_)
    refine zk_lconst (v := 0) hx hb dX1_odds_10 rfl ?_
    refine zk_ldc2 hx hb 12 hown (hts _ q1332) rfl dX1_odds_11 ?_
    obtain ⟨v2, hq, hf⟩ := zk_bs hf
    refine zk_callSS (As := [zk_L p2, zk_L 0, zk_L 12]) (rest := []) ⟨hx, hb, hml, hown, hts⟩ (zw_X1_in l p2 0 12 _ hq) (va_cwS 3 hts (lw_S q1027 q1028 q88 q1029) rfl rfl rfl (by decide +kernel) ⟨Nat.le_of_ble_eq_true rfl, Nat.le_of_ble_eq_true rfl⟩) hP hS rfl hl.1 rfl (Nat.le_of_ble_eq_true rfl) dX1_odds_14 ⟨Nat.le_of_ble_eq_true rfl, Nat.le_of_ble_eq_true rfl⟩ (fun H locs hP hS => ?_)
    refine zk_if_ne (tgt := 22) hx hb dX1_odds_17 (by decide) hf (fun h => h) (fun hf => ?_) (fun hf => ?_)
    · refine zk_lconst (v := 0) hx hb dX1_odds_22 rfl ?_
      refine lv_lstore_n (lv' := [(3, zk_L 0), (0, .ref o), (1, zk_I p1), (2, zk_I p2)]) hx hb dX1_odds_23 rfl hl (by decide) rfl (fun ls hl => ?_)
      refine zk_lconst (v := 0) hx hb dX1_odds_24 rfl ?_
      refine lv_lstore (lv' := [(5, zk_L 0), (3, zk_L 0), (0, .ref o), (1, zk_I p1), (2, zk_I p2)]) hx hb dX1_odds_25 hl (by decide) rfl (fun ls hl => ?_)
      refine zk_iconst hx hb dX1_odds_27 ?_
      refine lv_istore (lv' := [(7, zk_I 0), (5, zk_L 0), (3, zk_L 0), (0, .ref o), (1, zk_I p1), (2, zk_I p2)]) hx hb dX1_odds_28 hl (by decide) rfl (fun ls hl => ?_)
      exact hL30 N _ _ _ _ _ _ H locs ls hf (lv_sub hl [3, 4, 5, 2, 1, 0] rfl) hP hS
    · refine zk_iconst hx hb dX1_odds_20 ?_
      exact zk_iret hx hb hr hlk (zk_p1 hf) (zk_pB hf hP) hS dX1_odds_21
abbrev zw_X1_farAll_rm : Room := { frames := 5, cells := 0, slots := 0, locals := 124 }
abbrev zw_X1_farAll_vs (o : Nat) (p1 p2 : Int) : List Value := [.ref o, zk_I p1, zk_I p2]
set_option maxHeartbeats 4000000 in
set_option maxRecDepth 100000 in
theorem zw_X1_farAll (l : Launch) {D : va_G} {o : Nat} {a : Nat → Nat} {dA : Nat → ClassId} {A : Nat → Prop} (hD : ∀ τ, va_D A (zm_P o a dA τ)) (N : Nat) (p1 p2 : Int) (σ : ZS) (r : Int) (σ' : ZS) (hf : zm_farAll N p1 p2 σ = some (r, σ')) : zk_MW l yX1_farAll (ws_ yX1_farAll cX1_farAll 9 (Option.some Jvm.ClassFile.FieldType.long)) zw_X1_farAll_rm D zk_cl (zk_ty dA) A (zw_X1_farAll_vs o p1 p2) (zm_P o a dA σ) (zm_P o a dA σ') (some (zk_L r)) := by
  refine zk_startW (by decide +kernel) (Nat.le_of_ble_eq_true rfl) (fun p e s m below meth c H locs ls hx hb hr hlk hml hown hts hKX hP hS hl => ?_)
  have hl : lv_has ls 9 [(0, .ref o), (1, zk_I p1), (2, zk_I p2)] := hl
  have hK := hKX.1
  have hown : s.vm.findClass RX1 = some m.cls := hown
  have hf : zm_farAll N p1 p2 σ = some (r, σ') := hf
  have hJ92 : ∀ (x3 : Int) (s0 : ZS) (H : Heap) (locs : List Loc) (ls : Array Slot), zm_farAll_j92 N x3 s0 = some (r, σ') → lv_has ls 9 [(3, zk_L x3)] → va_P D zk_cl (zm_P o a dA s0) H → va_S A s.heap H locs → W p l e zw_X1_farAll_rm s m (zw_X1_farAll_vs o p1 p2).toArray below meth c H locs 0 0 (MQ below (zk_Q (some (zk_L r)) (fun t => va_P D zk_cl (zm_P o a dA σ') t.heap) A) (zw_X1_farAll_vs o p1 p2).toArray s 0 0 A) (F0 m 92 ls []) := by
    intro x3 s0 H locs ls hf hl hP hS
    refine zk_lloadn hx hb dX1_farAll_92 rfl (lv_at hl 0 rfl) ?_
    exact zk_lret hx hb hr hlk (zk_p1 hf) (zk_pB hf hP) hS dX1_farAll_93
  have hL10 : ∀ (n : Nat) (x1 x2 x3 x5 : Int) (s0 : ZS) (H : Heap) (locs : List Loc) (ls : Array Slot), zk_b (zk_loop (α := Int × Int × ZS) (β := Int × ZS) n (fun a => zm_farAll_b10 N x1 x2 a.1 a.2.1 a.2.2) (x3, x5, s0)) (fun e => zm_farAll_j92 N e.1 e.2) = some (r, σ') → lv_has ls 9 [(0, .ref o), (1, zk_I x1), (2, zk_I x2), (3, zk_L x3), (5, zk_I x5)] → va_P D zk_cl (zm_P o a dA s0) H → va_S A s.heap H locs → W p l e zw_X1_farAll_rm s m (zw_X1_farAll_vs o p1 p2).toArray below meth c H locs 0 0 (MQ below (zk_Q (some (zk_L r)) (fun t => va_P D zk_cl (zm_P o a dA σ') t.heap) A) (zw_X1_farAll_vs o p1 p2).toArray s 0 0 A) (F0 m 10 ls []) := by
    intro n
    induction n with
    | zero => intro x1 x2 x3 x5 s0 H locs ls hf; exact (zk_l0 hf).elim
    | succ n ih10 =>
      intro x1 x2 x3 x5 s0 H locs ls hf hl hP hS
      obtain ⟨c10, hf, hc10⟩ := zk_ls hf
      have hJ68 : ∀ (x5 x7 y0 y1 y2 y3 : Int) (s0 : ZS) (H : Heap) (locs : List Loc) (ls : Array Slot), zm_farAll_j68 N x1 x2 x5 x7 y0 y1 y2 y3 s0 = some c10 → lv_has ls 9 [(0, .ref o), (1, zk_I x1), (2, zk_I x2), (5, zk_I x5), (7, zk_L x7)] → va_P D zk_cl (zm_P o a dA s0) H → va_S A s.heap H locs → W p l e zw_X1_farAll_rm s m (zw_X1_farAll_vs o p1 p2).toArray below meth c H locs 0 0 (MQ below (zk_Q (some (zk_L r)) (fun t => va_P D zk_cl (zm_P o a dA σ') t.heap) A) (zw_X1_farAll_vs o p1 p2).toArray s 0 0 A) (F0 m 68 ls [zk_I y3, zk_I y2, zk_L y1, zk_L y0]) := by
        intro x5 x7 y0 y1 y2 y3 s0 H locs ls hf hl hP hS
        obtain ⟨v4, hq, hf⟩ := zk_bs hf
        refine zk_callSS (As := [zk_I y2, zk_I y3]) (rest := [zk_L y1, zk_L y0]) ⟨hx, hb, hml, hown, hts⟩ (zw_X1_apart l y2 y3 _ hq) (va_cwS 2 hts (lw_S q1143 q1144 q88 q1145) rfl rfl rfl (by decide +kernel) ⟨Nat.le_of_ble_eq_true rfl, Nat.le_of_ble_eq_true rfl⟩) hP hS rfl hl.1 rfl (Nat.le_of_ble_eq_true rfl) dX1_farAll_68 ⟨Nat.le_of_ble_eq_true rfl, Nat.le_of_ble_eq_true rfl⟩ (fun H locs hP hS => ?_)
        refine zk_ri2l hx hb dX1_farAll_71 hf (fun hf => ?_)
        refine zk_lmul hx hb dX1_farAll_72 ?_
        refine zk_ladd hx hb dX1_farAll_73 ?_
        refine zk_lstorenN (lv' := fun x3_5 => [(3, zk_L x3_5), (0, .ref o), (1, zk_I x1), (2, zk_I x2), (5, zk_I x5), (7, zk_L x7)]) hx hb dX1_farAll_74 rfl hl (by decide) (fun _ => rfl) hf (fun x3_5 hf ls hl => ?_)
        refine lv_aload_n hx hb dX1_farAll_75 rfl (lv_at hl 1 rfl) ?_
        refine lv_dup hx hb dX1_farAll_76 rfl ?_
        refine zm_rget hx hb hts hown hK hP 22 (by decide) q971 rfl dX1_farAll_77 ?_
        refine zk_lload hx hb dX1_farAll_80 (lv_at hl 5 rfl) ?_
        refine zk_ladd hx hb dX1_farAll_82 ?_
        refine zm_rput hx hb hts hown hK hP hD hS 22 (by decide) q971 rfl rfl rfl (zm_s22 _ _) hf dX1_farAll_83 (fun s6 H locs hf hP hS => ?_)
        refine zk_iincN (lv' := fun x5_7 => [(5, zk_I x5_7), (3, zk_L x3_5), (0, .ref o), (1, zk_I x1), (2, zk_I x2), (7, zk_L x7)]) hx hb dX1_farAll_86 hl (k := 4) rfl (by decide) (fun _ => rfl) hf (fun x5_7 hf ls hl => ?_)
        refine lv_goto (tgt := 10) hx hb dX1_farAll_89 (by decide) ?_
        obtain rfl := zk_so hf
        exact ih10 _ _ _ _ _ H locs ls hc10 (lv_sub hl [2, 3, 4, 1, 0] rfl) hP hS
      refine zk_iload hx hb dX1_farAll_10 (lv_at hl 4 rfl) ?_
      refine zk_iconst hx hb dX1_farAll_12 ?_
      refine lv_aload_n hx hb dX1_farAll_13 rfl (lv_at hl 0 rfl) ?_
      refine zm_rget hx hb hts hown hK hP 1 (by decide) q950 rfl dX1_farAll_14 ?_
      refine zk_rishl hx hb dX1_farAll_17 hf (fun hf => ?_)
      refine zk_icmp_ge (tgt := 92) hx hb dX1_farAll_18 (by decide) hf (fun h => h) (fun hf => ?_) (fun hf => ?_)
      · obtain rfl := zk_so hf
        exact hJ92 _ _ H locs ls hc10 (lv_sub hl [3] rfl) hP hS
      · refine lv_aload_n hx hb dX1_farAll_21 rfl (lv_at hl 0 rfl) ?_
        refine zk_iconst hx hb dX1_farAll_22 ?_
        refine zk_iload hx hb dX1_farAll_23 (lv_at hl 4 rfl) ?_
        obtain ⟨v2, hq, hf⟩ := zk_bs hf
        refine zk_callVR (As := [zk_I 0, zk_I x5]) (rest := []) ⟨hx, hb, hml, hown, hts⟩ (zw_X1_boldest l N 0 x5 s0 _ hq) (cwV 2 hts (lw_V q1173 q1175 qs60 q88 q1176) rfl rfl rfl (by decide +kernel) ⟨Nat.le_of_ble_eq_true rfl, Nat.le_of_ble_eq_true rfl⟩) hKX hP hS (va_recv hK hP (ci := 1) (q0 := 0) rfl rfl) rfl hl.1 rfl (Nat.le_of_ble_eq_true rfl) dX1_farAll_25 ⟨Nat.le_of_ble_eq_true rfl, Nat.le_of_ble_eq_true rfl⟩ (fun H locs hP hS => ?_)
        refine lv_istore (lv' := [(6, zk_I v2), (0, .ref o), (1, zk_I x1), (2, zk_I x2), (3, zk_L x3), (5, zk_I x5)]) hx hb dX1_farAll_28 hl (by decide) rfl (fun ls hl => ?_)
        refine lv_aload_n hx hb dX1_farAll_30 rfl (lv_at hl 1 rfl) ?_
        refine zk_iload hx hb dX1_farAll_31 (lv_at hl 5 rfl) ?_
        refine zk_iloadn hx hb dX1_farAll_33 rfl (lv_at hl 3 rfl) ?_
        obtain ⟨v3, hq, hf⟩ := zk_bs hf
        refine zk_callVR (As := [zk_I x5, zk_I x2]) (rest := []) ⟨hx, hb, hml, hown, hts⟩ (zw_X1_chancesOf l N x5 x2 s0 _ hq) (cwV 2 hts (lw_V q1333 q1335 qs78 q88 q1336) rfl rfl rfl (by decide +kernel) ⟨Nat.le_of_ble_eq_true rfl, Nat.le_of_ble_eq_true rfl⟩) hKX hP hS (va_recv hK hP (ci := 1) (q0 := 0) rfl rfl) rfl hl.1 rfl (Nat.le_of_ble_eq_true rfl) dX1_farAll_34 ⟨Nat.le_of_ble_eq_true rfl, Nat.le_of_ble_eq_true rfl⟩ (fun H locs hP hS => ?_)
        refine lv_lstore (lv' := [(7, zk_L v3), (6, zk_I v2), (0, .ref o), (1, zk_I x1), (2, zk_I x2), (3, zk_L x3), (5, zk_I x5)]) hx hb dX1_farAll_37 hl (by decide) rfl (fun ls hl => ?_)
        refine zk_lloadn hx hb dX1_farAll_39 rfl (lv_at hl 5 rfl) ?_
        refine zk_lload hx hb dX1_farAll_40 (lv_at hl 0 rfl) ?_
        refine zk_iloadn hx hb dX1_farAll_42 rfl (lv_at hl 3 rfl) ?_
        refine zk_iload hx hb dX1_farAll_43 (lv_at hl 1 rfl) ?_
        refine zk_bipush hx hb dX1_farAll_45 (by decide) ?_
        refine zk_icmp_ne (tgt := 59) hx hb dX1_farAll_47 (by decide) hf (fun h => ⟨h, by decide⟩) (fun hf => ?_) (fun hf => ?_)
        · refine lv_aload_n hx hb dX1_farAll_59 rfl (lv_at hl 2 rfl) ?_
          refine zm_rget hx hb hts hown hK hP 0 (by decide) q949 rfl dX1_farAll_60 ?_
          refine zk_iconst hx hb dX1_farAll_63 ?_
          refine zk_iload hx hb dX1_farAll_64 (lv_at hl 1 rfl) ?_
          refine zk_iadd hx hb dX1_farAll_66 ?_
          refine zk_iald hx hb hK hP 1 0 rfl rfl (N := 3305) ⟨by decide, by decide⟩ hf dX1_farAll_67 (fun hf => ?_)
          exact hJ68 _ _ _ _ _ _ _ H locs ls hf (lv_sub hl [2, 3, 4, 6, 0] rfl) hP hS
        · refine lv_aload_n hx hb dX1_farAll_50 rfl (lv_at hl 2 rfl) ?_
          refine zm_rget hx hb hts hown hK hP 0 (by decide) q949 rfl dX1_farAll_51 ?_
          refine zk_iconst hx hb dX1_farAll_54 ?_
          refine zk_iald hx hb hK hP 1 0 rfl rfl (N := 3305) ⟨by decide, by decide⟩ hf dX1_farAll_55 (fun hf => ?_)
          refine lv_goto (tgt := 68) hx hb dX1_farAll_56 (by decide) ?_
          exact hJ68 _ _ _ _ _ _ _ H locs ls hf (lv_sub hl [2, 3, 4, 6, 0] rfl) hP hS
  refine zk_lconst (v := 0) hx hb dX1_farAll_0 rfl ?_
  refine lv_lstore_n (lv' := [(3, zk_L 0), (0, .ref o), (1, zk_I p1), (2, zk_I p2)]) hx hb dX1_farAll_1 rfl hl (by decide) rfl (fun ls hl => ?_)
  refine lv_aload_n hx hb dX1_farAll_2 rfl (lv_at hl 1 rfl) ?_
  refine zk_lconst (v := 0) hx hb dX1_farAll_3 rfl ?_
  refine zm_rput hx hb hts hown hK hP hD hS 22 (by decide) q971 rfl rfl rfl (zm_s22 _ _) hf dX1_farAll_4 (fun s1 H locs hf hP hS => ?_)
  refine zk_iconst hx hb dX1_farAll_7 ?_
  refine lv_istore (lv' := [(5, zk_I 0), (3, zk_L 0), (0, .ref o), (1, zk_I p1), (2, zk_I p2)]) hx hb dX1_farAll_8 hl (by decide) rfl (fun ls hl => ?_)
  exact hL10 N _ _ _ _ _ H locs ls hf (lv_sub hl [2, 3, 4, 1, 0] rfl) hP hS
abbrev zw_X1_mid_rm : Room := { frames := 6, cells := 0, slots := 0, locals := 152 }
abbrev zw_X1_mid_vs (o : Nat) (p1 p2 : Int) : List Value := [.ref o, zk_I p1, zk_I p2]
set_option maxHeartbeats 4000000 in
set_option maxRecDepth 100000 in
theorem zw_X1_mid (l : Launch) {D : va_G} {o : Nat} {a : Nat → Nat} {dA : Nat → ClassId} {A : Nat → Prop} (hD : ∀ τ, va_D A (zm_P o a dA τ)) (N : Nat) (p1 p2 : Int) (σ : ZS) (r : Int) (σ' : ZS) (hf : zm_mid N p1 p2 σ = some (r, σ')) : zk_MW l yX1_mid (ws_ yX1_mid cX1_mid 5 (Option.some Jvm.ClassFile.FieldType.int)) zw_X1_mid_rm D zk_cl (zk_ty dA) A (zw_X1_mid_vs o p1 p2) (zm_P o a dA σ) (zm_P o a dA σ') (some (zk_I r)) := by
  refine zk_startW (by decide +kernel) (Nat.le_of_ble_eq_true rfl) (fun p e s m below meth c H locs ls hx hb hr hlk hml hown hts hKX hP hS hl => ?_)
  have hl : lv_has ls 5 [(0, .ref o), (1, zk_I p1), (2, zk_I p2)] := hl
  have hK := hKX.1
  have hown : s.vm.findClass RX1 = some m.cls := hown
  have hf : zm_mid N p1 p2 σ = some (r, σ') := hf
  refine zk_iloadn hx hb dX1_mid_0 rfl (lv_at hl 1 rfl) ?_
  refine zk_ri2l hx hb dX1_mid_1 hf (fun hf => ?_)
  refine zk_lconst (v := 0) hx hb dX1_mid_2 rfl ?_
  refine zk_ldc2 hx hb 9 hown (hts _ q1188) rfl dX1_mid_3 ?_
  obtain ⟨v1, hq, hf⟩ := zk_bs hf
  refine zk_callSS (As := [zk_L p1, zk_L 0, zk_L 9]) (rest := []) ⟨hx, hb, hml, hown, hts⟩ (zw_X1_in l p1 0 9 _ hq) (va_cwS 3 hts (lw_S q1027 q1028 q88 q1029) rfl rfl rfl (by decide +kernel) ⟨Nat.le_of_ble_eq_true rfl, Nat.le_of_ble_eq_true rfl⟩) hP hS rfl hl.1 rfl (Nat.le_of_ble_eq_true rfl) dX1_mid_6 ⟨Nat.le_of_ble_eq_true rfl, Nat.le_of_ble_eq_true rfl⟩ (fun H locs hP hS => ?_)
  refine zk_if_eq (tgt := 24) hx hb dX1_mid_9 (by decide) hf (fun h => h) (fun hf => ?_) (fun hf => ?_)
  · refine zk_iconst hx hb dX1_mid_24 ?_
    exact zk_iret hx hb hr hlk (zk_p1 hf) (zk_pB hf hP) hS dX1_mid_25
  · refine zk_iloadn hx hb dX1_mid_12 rfl (lv_at hl 2 rfl) ?_
    refine zk_ri2l hx hb dX1_mid_13 hf (fun hf => ?_)
    refine zk_lconst (v := 0) hx hb dX1_mid_14 rfl ?_
    refine zk_ldc2 hx hb 12 hown (hts _ q1332) rfl dX1_mid_15 ?_
    obtain ⟨v2, hq, hf⟩ := zk_bs hf
    refine zk_callSS (As := [zk_L p2, zk_L 0, zk_L 12]) (rest := []) ⟨hx, hb, hml, hown, hts⟩ (zw_X1_in l p2 0 12 _ hq) (va_cwS 3 hts (lw_S q1027 q1028 q88 q1029) rfl rfl rfl (by decide +kernel) ⟨Nat.le_of_ble_eq_true rfl, Nat.le_of_ble_eq_true rfl⟩) hP hS rfl hl.1 rfl (Nat.le_of_ble_eq_true rfl) dX1_mid_18 ⟨Nat.le_of_ble_eq_true rfl, Nat.le_of_ble_eq_true rfl⟩ (fun H locs hP hS => ?_)
    refine zk_if_ne (tgt := 26) hx hb dX1_mid_21 (by decide) hf (fun h => h) (fun hf => ?_) (fun hf => ?_)
    · refine lv_aload_n hx hb dX1_mid_26 rfl (lv_at hl 0 rfl) ?_
      refine zm_rget hx hb hts hown hK hP 1 (by decide) q950 rfl dX1_mid_27 ?_
      refine zk_if_ne (tgt := 36) hx hb dX1_mid_30 (by decide) hf (fun h => h) (fun hf => ?_) (fun hf => ?_)
      · refine lv_aload_n hx hb dX1_mid_36 rfl (lv_at hl 0 rfl) ?_
        refine zk_iloadn hx hb dX1_mid_37 rfl (lv_at hl 1 rfl) ?_
        refine zk_iloadn hx hb dX1_mid_38 rfl (lv_at hl 2 rfl) ?_
        obtain ⟨v3, s4, hq, hf⟩ := zk_b2s hf
        refine zk_callVW (As := [zk_I p1, zk_I p2]) (rest := []) ⟨hx, hb, hml, hown, hts⟩ (zw_X1_farAll l hD N p1 p2 σ _ _ hq) (cwV 2 hts (lw_V q1345 q1347 qs80 q88 q1348) rfl rfl rfl (by decide +kernel) ⟨Nat.le_of_ble_eq_true rfl, Nat.le_of_ble_eq_true rfl⟩) hKX hP hS (va_recv hK hP (ci := 1) (q0 := 0) rfl rfl) rfl hl.1 rfl (Nat.le_of_ble_eq_true rfl) dX1_mid_39 ⟨Nat.le_of_ble_eq_true rfl, Nat.le_of_ble_eq_true rfl⟩ (fun H locs hP hS => ?_)
        refine lv_lstore_n (lv' := [(3, zk_L v3), (0, .ref o), (1, zk_I p1), (2, zk_I p2)]) hx hb dX1_mid_42 rfl hl (by decide) rfl (fun ls hl => ?_)
        refine lv_aload_n hx hb dX1_mid_43 rfl (lv_at hl 1 rfl) ?_
        refine zk_lloadn hx hb dX1_mid_44 rfl (lv_at hl 0 rfl) ?_
        refine lv_aload_n hx hb dX1_mid_45 rfl (lv_at hl 1 rfl) ?_
        refine zm_rget hx hb hts hown hK hP 22 (by decide) q971 rfl dX1_mid_46 ?_
        obtain ⟨v5, s6, hq, hf⟩ := zk_b2s hf
        refine zk_callVW (As := [zk_L v3, zk_L (s4 22 0)]) (rest := []) ⟨hx, hb, hml, hown, hts⟩ (zw_X1_tellParts l hD N v3 (s4 22 0) s4 _ _ hq) (cwV 2 hts (lw_V q1337 q1339 qs79 q88 q1340) rfl rfl rfl (by decide +kernel) ⟨Nat.le_of_ble_eq_true rfl, Nat.le_of_ble_eq_true rfl⟩) hKX hP hS (va_recv hK hP (ci := 1) (q0 := 0) rfl rfl) rfl hl.1 rfl (Nat.le_of_ble_eq_true rfl) dX1_mid_49 ⟨Nat.le_of_ble_eq_true rfl, Nat.le_of_ble_eq_true rfl⟩ (fun H locs hP hS => ?_)
        refine zk_iconst hx hb dX1_mid_52 ?_
        exact zk_iret hx hb hr hlk (zk_p1 hf) (zk_pB hf hP) hS dX1_mid_53
      · refine zk_bipush hx hb dX1_mid_33 (by decide) ?_
        exact zk_iret hx hb hr hlk (zk_p1 hf) (zk_pB hf hP) hS dX1_mid_35
    · refine zk_iconst hx hb dX1_mid_24 ?_
      exact zk_iret hx hb hr hlk (zk_p1 hf) (zk_pB hf hP) hS dX1_mid_25
abbrev zw_X1_fair_rm : Room := { frames := 6, cells := 0, slots := 0, locals := 152 }
abbrev zw_X1_fair_vs (o : Nat) (p1 : Int) : List Value := [.ref o, zk_I p1]
set_option maxHeartbeats 4000000 in
set_option maxRecDepth 100000 in
theorem zw_X1_fair (l : Launch) {D : va_G} {o : Nat} {a : Nat → Nat} {dA : Nat → ClassId} {A : Nat → Prop} (hD : ∀ τ, va_D A (zm_P o a dA τ)) (N : Nat) (p1 : Int) (σ : ZS) (r : Int) (σ' : ZS) (hf : zm_fair N p1 σ = some (r, σ')) : zk_MW l yX1_fair (ws_ yX1_fair cX1_fair 9 (Option.some Jvm.ClassFile.FieldType.int)) zw_X1_fair_rm D zk_cl (zk_ty dA) A (zw_X1_fair_vs o p1) (zm_P o a dA σ) (zm_P o a dA σ') (some (zk_I r)) := by
  refine zk_startW (by decide +kernel) (Nat.le_of_ble_eq_true rfl) (fun p e s m below meth c H locs ls hx hb hr hlk hml hown hts hKX hP hS hl => ?_)
  have hl : lv_has ls 9 [(0, .ref o), (1, zk_I p1)] := hl
  have hK := hKX.1
  have hown : s.vm.findClass RX1 = some m.cls := hown
  have hf : zm_fair N p1 σ = some (r, σ') := hf
  have hJ99 : ∀ (x2 x3 : Int) (s0 : ZS) (H : Heap) (locs : List Loc) (ls : Array Slot), zm_fair_j99 N x2 x3 s0 = some (r, σ') → lv_has ls 9 [(0, .ref o), (2, zk_I x2), (3, zk_L x3)] → va_P D zk_cl (zm_P o a dA s0) H → va_S A s.heap H locs → W p l e zw_X1_fair_rm s m (zw_X1_fair_vs o p1).toArray below meth c H locs 0 0 (MQ below (zk_Q (some (zk_I r)) (fun t => va_P D zk_cl (zm_P o a dA σ') t.heap) A) (zw_X1_fair_vs o p1).toArray s 0 0 A) (F0 m 99 ls []) := by
    intro x2 x3 s0 H locs ls hf hl hP hS
    refine lv_aload_n hx hb dX1_fair_99 rfl (lv_at hl 0 rfl) ?_
    refine zk_lloadn hx hb dX1_fair_100 rfl (lv_at hl 2 rfl) ?_
    refine lv_aload_n hx hb dX1_fair_101 rfl (lv_at hl 0 rfl) ?_
    refine zm_rget hx hb hts hown hK hP 22 (by decide) q971 rfl dX1_fair_102 ?_
    obtain ⟨v7, s8, hq, hf⟩ := zk_b2s hf
    refine zk_callVW (As := [zk_L x3, zk_L (s0 22 0)]) (rest := []) ⟨hx, hb, hml, hown, hts⟩ (zw_X1_tellParts l hD N x3 (s0 22 0) s0 _ _ hq) (cwV 2 hts (lw_V q1337 q1339 qs79 q88 q1340) rfl rfl rfl (by decide +kernel) ⟨Nat.le_of_ble_eq_true rfl, Nat.le_of_ble_eq_true rfl⟩) hKX hP hS (va_recv hK hP (ci := 1) (q0 := 0) rfl rfl) rfl hl.1 rfl (Nat.le_of_ble_eq_true rfl) dX1_fair_105 ⟨Nat.le_of_ble_eq_true rfl, Nat.le_of_ble_eq_true rfl⟩ (fun H locs hP hS => ?_)
    refine zk_iloadn hx hb dX1_fair_108 rfl (lv_at hl 1 rfl) ?_
    exact zk_iret hx hb hr hlk (zk_p1 hf) (zk_pB hf hP) hS dX1_fair_109
  have hL33 : ∀ (n : Nat) (x1 x2 x3 x5 : Int) (s0 : ZS) (H : Heap) (locs : List Loc) (ls : Array Slot), zk_b (zk_loop (α := Int × Int × Int × ZS) (β := Int × Int × ZS) n (fun a => zm_fair_b33 N x1 a.1 a.2.1 a.2.2.1 a.2.2.2) (x2, x3, x5, s0)) (fun e => zm_fair_j99 N e.1 e.2.1 e.2.2) = some (r, σ') → lv_has ls 9 [(0, .ref o), (1, zk_I x1), (2, zk_I x2), (3, zk_L x3), (5, zk_I x5)] → va_P D zk_cl (zm_P o a dA s0) H → va_S A s.heap H locs → W p l e zw_X1_fair_rm s m (zw_X1_fair_vs o p1).toArray below meth c H locs 0 0 (MQ below (zk_Q (some (zk_I r)) (fun t => va_P D zk_cl (zm_P o a dA σ') t.heap) A) (zw_X1_fair_vs o p1).toArray s 0 0 A) (F0 m 33 ls []) := by
    intro n
    induction n with
    | zero => intro x1 x2 x3 x5 s0 H locs ls hf; exact (zk_l0 hf).elim
    | succ n ih33 =>
      intro x1 x2 x3 x5 s0 H locs ls hf hl hP hS
      obtain ⟨c33, hf, hc33⟩ := zk_ls hf
      have hJ67 : ∀ (x2 x3 x5 x6 y0 : Int) (s0 : ZS) (H : Heap) (locs : List Loc) (ls : Array Slot), zm_fair_j67 N x1 x2 x3 x5 x6 y0 s0 = some c33 → lv_has ls 9 [(0, .ref o), (1, zk_I x1), (2, zk_I x2), (3, zk_L x3), (5, zk_I x5), (6, zk_L x6)] → va_P D zk_cl (zm_P o a dA s0) H → va_S A s.heap H locs → W p l e zw_X1_fair_rm s m (zw_X1_fair_vs o p1).toArray below meth c H locs 0 0 (MQ below (zk_Q (some (zk_I r)) (fun t => va_P D zk_cl (zm_P o a dA σ') t.heap) A) (zw_X1_fair_vs o p1).toArray s 0 0 A) (F0 m 67 ls [zk_I y0]) := by
        intro x2 x3 x5 x6 y0 s0 H locs ls hf hl hP hS
        refine lv_istore (lv' := [(8, zk_I y0), (0, .ref o), (1, zk_I x1), (2, zk_I x2), (3, zk_L x3), (5, zk_I x5), (6, zk_L x6)]) hx hb dX1_fair_67 hl (by decide) rfl (fun ls hl => ?_)
        refine zk_iload hx hb dX1_fair_69 (lv_at hl 0 rfl) ?_
        obtain ⟨hg, hf⟩ := zk_gs hf
        have hV : W p l e zw_X1_fair_rm s m (zw_X1_fair_vs o p1).toArray below meth c H locs 0 0 (MQ below (zk_Q (some (zk_I r)) (fun t => va_P D zk_cl (zm_P o a dA σ') t.heap) A) (zw_X1_fair_vs o p1).toArray s 0 0 A) (F0 m 80 ls [zk_I (if y0 = 0 then x2 else x5)]) := by
          refine zk_istorenN (lv' := fun x2_4 => [(2, zk_I x2_4), (8, zk_I y0), (0, .ref o), (1, zk_I x1), (3, zk_L x3), (5, zk_I x5), (6, zk_L x6)]) hx hb dX1_fair_80 rfl hl (by decide) (fun _ => rfl) hf (fun x2_4 hf ls hl => ?_)
          refine zk_iload hx hb dX1_fair_81 (lv_at hl 1 rfl) ?_
          obtain ⟨hg, hf⟩ := zk_gs hf
          have hV : W p l e zw_X1_fair_rm s m (zw_X1_fair_vs o p1).toArray below meth c H locs 0 0 (MQ below (zk_Q (some (zk_I r)) (fun t => va_P D zk_cl (zm_P o a dA σ') t.heap) A) (zw_X1_fair_vs o p1).toArray s 0 0 A) (F0 m 92 ls [zk_L (if y0 = 0 then x3 else x6)]) := by
            refine zk_lstorenN (lv' := fun x3_5 => [(3, zk_L x3_5), (2, zk_I x2_4), (8, zk_I y0), (0, .ref o), (1, zk_I x1), (5, zk_I x5), (6, zk_L x6)]) hx hb dX1_fair_92 rfl hl (by decide) (fun _ => rfl) hf (fun x3_5 hf ls hl => ?_)
            refine zk_iincN (lv' := fun x5_6 => [(5, zk_I x5_6), (3, zk_L x3_5), (2, zk_I x2_4), (8, zk_I y0), (0, .ref o), (1, zk_I x1), (6, zk_L x6)]) hx hb dX1_fair_93 hl (k := 5) rfl (by decide) (fun _ => rfl) hf (fun x5_6 hf ls hl => ?_)
            refine lv_goto (tgt := 33) hx hb dX1_fair_96 (by decide) ?_
            obtain rfl := zk_so hf
            exact ih33 _ _ _ _ _ H locs ls hc33 (lv_sub hl [4, 5, 2, 1, 0] rfl) hP hS
          refine zk_if_eqV (tgt := 91) hx hb dX1_fair_83 (by decide) ((fun h => h) hg) (fun hc => ?_) (fun hc => ?_)
          · rw [if_pos hc] at hV
            refine zk_lloadn hx hb dX1_fair_91 rfl (lv_at hl 4 rfl) ?_
            exact hV
          · rw [if_neg hc] at hV
            refine zk_lload hx hb dX1_fair_86 (lv_at hl 6 rfl) ?_
            refine lv_goto (tgt := 92) hx hb dX1_fair_88 (by decide) ?_
            exact hV
        refine zk_if_eqV (tgt := 79) hx hb dX1_fair_71 (by decide) ((fun h => h) hg) (fun hc => ?_) (fun hc => ?_)
        · rw [if_pos hc] at hV
          refine zk_iloadn hx hb dX1_fair_79 rfl (lv_at hl 3 rfl) ?_
          exact hV
        · rw [if_neg hc] at hV
          refine zk_iload hx hb dX1_fair_74 (lv_at hl 5 rfl) ?_
          refine lv_goto (tgt := 80) hx hb dX1_fair_76 (by decide) ?_
          exact hV
      refine zk_iload hx hb dX1_fair_33 (lv_at hl 4 rfl) ?_
      refine zk_bipush hx hb dX1_fair_35 (by decide) ?_
      refine zk_icmp_ge (tgt := 99) hx hb dX1_fair_37 (by decide) hf (fun h => ⟨h, by decide⟩) (fun hf => ?_) (fun hf => ?_)
      · obtain rfl := zk_so hf
        exact hJ99 _ _ _ H locs ls hc33 (lv_sub hl [0, 2, 3] rfl) hP hS
      · refine lv_aload_n hx hb dX1_fair_40 rfl (lv_at hl 0 rfl) ?_
        refine zk_iload hx hb dX1_fair_41 (lv_at hl 4 rfl) ?_
        refine zk_iloadn hx hb dX1_fair_43 rfl (lv_at hl 1 rfl) ?_
        obtain ⟨v2, s3, hq, hf⟩ := zk_b2s hf
        refine zk_callVW (As := [zk_I x5, zk_I x1]) (rest := []) ⟨hx, hb, hml, hown, hts⟩ (zw_X1_farAll l hD N x5 x1 s0 _ _ hq) (cwV 2 hts (lw_V q1345 q1347 qs80 q88 q1348) rfl rfl rfl (by decide +kernel) ⟨Nat.le_of_ble_eq_true rfl, Nat.le_of_ble_eq_true rfl⟩) hKX hP hS (va_recv hK hP (ci := 1) (q0 := 0) rfl rfl) rfl hl.1 rfl (Nat.le_of_ble_eq_true rfl) dX1_fair_44 ⟨Nat.le_of_ble_eq_true rfl, Nat.le_of_ble_eq_true rfl⟩ (fun H locs hP hS => ?_)
        refine lv_lstore (lv' := [(6, zk_L v2), (0, .ref o), (1, zk_I x1), (2, zk_I x2), (3, zk_L x3), (5, zk_I x5)]) hx hb dX1_fair_47 hl (by decide) rfl (fun ls hl => ?_)
        refine zk_lloadn hx hb dX1_fair_49 rfl (lv_at hl 4 rfl) ?_
        refine zk_lconst (v := 0) hx hb dX1_fair_50 rfl ?_
        refine zk_lcmp_lt (tgt := 62) hx hb dX1_fair_51 dX1_fair_52 (by decide) hf (fun h => ⟨h, by decide⟩) (fun hf => ?_) (fun hf => ?_)
        · refine zk_iconst hx hb dX1_fair_62 ?_
          refine lv_goto (tgt := 67) hx hb dX1_fair_63 (by decide) ?_
          exact hJ67 _ _ _ _ _ _ H locs ls hf (lv_sub hl [1, 2, 3, 4, 5, 0] rfl) hP hS
        · refine zk_lload hx hb dX1_fair_55 (lv_at hl 0 rfl) ?_
          refine zk_lloadn hx hb dX1_fair_57 rfl (lv_at hl 4 rfl) ?_
          refine zk_lcmp_ge (tgt := 66) hx hb dX1_fair_58 dX1_fair_59 (by decide) hf (fun h => h) (fun hf => ?_) (fun hf => ?_)
          · refine zk_iconst hx hb dX1_fair_66 ?_
            exact hJ67 _ _ _ _ _ _ H locs ls hf (lv_sub hl [1, 2, 3, 4, 5, 0] rfl) hP hS
          · refine zk_iconst hx hb dX1_fair_62 ?_
            refine lv_goto (tgt := 67) hx hb dX1_fair_63 (by decide) ?_
            exact hJ67 _ _ _ _ _ _ H locs ls hf (lv_sub hl [1, 2, 3, 4, 5, 0] rfl) hP hS
  refine zk_iloadn hx hb dX1_fair_0 rfl (lv_at hl 1 rfl) ?_
  refine zk_ri2l hx hb dX1_fair_1 hf (fun hf => ?_)
  refine zk_lconst (v := 0) hx hb dX1_fair_2 rfl ?_
  refine zk_ldc2 hx hb 12 hown (hts _ q1332) rfl dX1_fair_3 ?_
  obtain ⟨v1, hq, hf⟩ := zk_bs hf
  refine zk_callSS (As := [zk_L p1, zk_L 0, zk_L 12]) (rest := []) ⟨hx, hb, hml, hown, hts⟩ (zw_X1_in l p1 0 12 _ hq) (va_cwS 3 hts (lw_S q1027 q1028 q88 q1029) rfl rfl rfl (by decide +kernel) ⟨Nat.le_of_ble_eq_true rfl, Nat.le_of_ble_eq_true rfl⟩) hP hS rfl hl.1 rfl (Nat.le_of_ble_eq_true rfl) dX1_fair_6 ⟨Nat.le_of_ble_eq_true rfl, Nat.le_of_ble_eq_true rfl⟩ (fun H locs hP hS => ?_)
  refine zk_if_ne (tgt := 14) hx hb dX1_fair_9 (by decide) hf (fun h => h) (fun hf => ?_) (fun hf => ?_)
  · refine lv_aload_n hx hb dX1_fair_14 rfl (lv_at hl 0 rfl) ?_
    refine zm_rget hx hb hts hown hK hP 1 (by decide) q950 rfl dX1_fair_15 ?_
    refine zk_if_ne (tgt := 24) hx hb dX1_fair_18 (by decide) hf (fun h => h) (fun hf => ?_) (fun hf => ?_)
    · refine zk_iconst hx hb dX1_fair_24 ?_
      refine lv_istore_n (lv' := [(2, zk_I 0), (0, .ref o), (1, zk_I p1)]) hx hb dX1_fair_25 rfl hl (by decide) rfl (fun ls hl => ?_)
      refine zk_ldc2 hx hb (-1) hown (hts _ q1353) rfl dX1_fair_26 ?_
      refine lv_lstore_n (lv' := [(3, zk_L (-1)), (2, zk_I 0), (0, .ref o), (1, zk_I p1)]) hx hb dX1_fair_29 rfl hl (by decide) rfl (fun ls hl => ?_)
      refine zk_iconst hx hb dX1_fair_30 ?_
      refine lv_istore (lv' := [(5, zk_I 0), (3, zk_L (-1)), (2, zk_I 0), (0, .ref o), (1, zk_I p1)]) hx hb dX1_fair_31 hl (by decide) rfl (fun ls hl => ?_)
      exact hL33 N _ _ _ _ _ H locs ls hf (lv_sub hl [3, 4, 2, 1, 0] rfl) hP hS
    · refine zk_bipush hx hb dX1_fair_21 (by decide) ?_
      exact zk_iret hx hb hr hlk (zk_p1 hf) (zk_pB hf hP) hS dX1_fair_23
  · refine zk_iconst hx hb dX1_fair_12 ?_
    exact zk_iret hx hb hr hlk (zk_p1 hf) (zk_pB hf hP) hS dX1_fair_13
abbrev zw_X1_byLot_rm : Room := { frames := 6, cells := 0, slots := 0, locals := 148 }
abbrev zw_X1_byLot_vs (o : Nat) (p1 : Int) : List Value := [.ref o, zk_L p1]
set_option maxHeartbeats 4000000 in
set_option maxRecDepth 100000 in
theorem zw_X1_byLot (l : Launch) {D : va_G} {o : Nat} {a : Nat → Nat} {dA : Nat → ClassId} {A : Nat → Prop} (hD : ∀ τ, va_D A (zm_P o a dA τ)) (N : Nat) (p1 : Int) (σ : ZS) (r : Int) (σ' : ZS) (hf : zm_byLot N p1 σ = some (r, σ')) : zk_MW l yX1_byLot (ws_ yX1_byLot cX1_byLot 7 (Option.none : Option Jvm.ClassFile.FieldType)) zw_X1_byLot_rm D zk_cl (zk_ty dA) A (zw_X1_byLot_vs o p1) (zm_P o a dA σ) (zm_P o a dA σ') none := by
  refine zk_startW (by decide +kernel) (Nat.le_of_ble_eq_true rfl) (fun p e s m below meth c H locs ls hx hb hr hlk hml hown hts hKX hP hS hl => ?_)
  have hl : lv_has ls 7 [(0, .ref o), (1, zk_L p1)] := hl
  have hK := hKX.1
  have hown : s.vm.findClass RX1 = some m.cls := hown
  have hf : zm_byLot N p1 σ = some (r, σ') := hf
  refine zk_lloadn hx hb dX1_byLot_0 rfl (lv_at hl 1 rfl) ?_
  refine lv_aload_n hx hb dX1_byLot_1 rfl (lv_at hl 0 rfl) ?_
  refine zm_rget hx hb hts hown hK hP 1 (by decide) q950 rfl dX1_byLot_2 ?_
  refine zk_ri2l hx hb dX1_byLot_5 hf (fun hf => ?_)
  refine zk_rlrem hx hb dX1_byLot_6 hf (fun hf => ?_)
  refine zk_rl2i hx hb dX1_byLot_7 ?_
  refine zk_istorenN (lv' := fun x3_1 => [(3, zk_I x3_1), (0, .ref o), (1, zk_L p1)]) hx hb dX1_byLot_8 rfl hl (by decide) (fun _ => rfl) hf (fun x3_1 hf ls hl => ?_)
  refine zk_lloadn hx hb dX1_byLot_9 rfl (lv_at hl 2 rfl) ?_
  refine zk_ldc2 hx hb 8 hown (hts _ q1365) rfl dX1_byLot_10 ?_
  refine zk_rldiv hx hb dX1_byLot_13 hf (fun hf => ?_)
  refine zk_ldc2 hx hb 8 hown (hts _ q1365) rfl dX1_byLot_14 ?_
  refine zk_rlrem hx hb dX1_byLot_17 hf (fun hf => ?_)
  refine zk_rl2i hx hb dX1_byLot_18 ?_
  refine zk_istoreN (lv' := fun x4_2 => [(4, zk_I x4_2), (3, zk_I x3_1), (0, .ref o), (1, zk_L p1)]) hx hb dX1_byLot_19 hl (by decide) (fun _ => rfl) hf (fun x4_2 hf ls hl => ?_)
  refine zk_iconst hx hb dX1_byLot_21 ?_
  refine zk_lloadn hx hb dX1_byLot_22 rfl (lv_at hl 3 rfl) ?_
  refine zk_ldc2 hx hb 64 hown (hts _ q1366) rfl dX1_byLot_23 ?_
  refine zk_rldiv hx hb dX1_byLot_26 hf (fun hf => ?_)
  refine zk_ldc2 hx hb 5 hown (hts _ q1026) rfl dX1_byLot_27 ?_
  refine zk_rlrem hx hb dX1_byLot_30 hf (fun hf => ?_)
  refine zk_rl2i hx hb dX1_byLot_31 ?_
  refine zk_iadd hx hb dX1_byLot_32 ?_
  refine zk_istoreN (lv' := fun x5_3 => [(5, zk_I x5_3), (4, zk_I x4_2), (3, zk_I x3_1), (0, .ref o), (1, zk_L p1)]) hx hb dX1_byLot_33 hl (by decide) (fun _ => rfl) hf (fun x5_3 hf ls hl => ?_)
  refine lv_aload_n hx hb dX1_byLot_35 rfl (lv_at hl 3 rfl) ?_
  refine zm_rget hx hb hts hown hK hP 0 (by decide) q949 rfl dX1_byLot_36 ?_
  refine zk_bipush hx hb dX1_byLot_39 (by decide) ?_
  refine zk_iloadn hx hb dX1_byLot_41 rfl (lv_at hl 2 rfl) ?_
  refine zk_iadd hx hb dX1_byLot_42 ?_
  refine zk_iald hx hb hK hP 1 0 rfl rfl (N := 3305) ⟨by decide, by decide⟩ hf dX1_byLot_43 (fun hf => ?_)
  refine zk_istoreN (lv' := fun x6_4 => [(6, zk_I x6_4), (5, zk_I x5_3), (4, zk_I x4_2), (3, zk_I x3_1), (0, .ref o), (1, zk_L p1)]) hx hb dX1_byLot_44 hl (by decide) (fun _ => rfl) hf (fun x6_4 hf ls hl => ?_)
  refine zk_iload hx hb dX1_byLot_46 (lv_at hl 2 rfl) ?_
  refine zk_iconst hx hb dX1_byLot_48 ?_
  refine zk_icmp_ge (tgt := 84) hx hb dX1_byLot_49 (by decide) hf (fun h => ⟨h, by decide⟩) (fun hf => ?_) (fun hf => ?_)
  · refine zk_iload hx hb dX1_byLot_84 (lv_at hl 2 rfl) ?_
    refine zk_iconst hx hb dX1_byLot_86 ?_
    refine zk_icmp_ne (tgt := 118) hx hb dX1_byLot_87 (by decide) hf (fun h => ⟨h, by decide⟩) (fun hf => ?_) (fun hf => ?_)
    · refine zk_iload hx hb dX1_byLot_118 (lv_at hl 2 rfl) ?_
      refine zk_iconst hx hb dX1_byLot_120 ?_
      refine zk_icmp_ne (tgt := 145) hx hb dX1_byLot_121 (by decide) hf (fun h => ⟨h, by decide⟩) (fun hf => ?_) (fun hf => ?_)
      · refine lv_aload_n hx hb dX1_byLot_145 rfl (lv_at hl 4 rfl) ?_
        refine zk_iconst hx hb dX1_byLot_146 ?_
        obtain ⟨v5, s6, hq, hf⟩ := zk_b2s hf
        refine zk_callVW (As := [zk_I 0]) (rest := []) ⟨hx, hb, hml, hown, hts⟩ (zw_X1_passes l hD N 0 σ _ _ hq) (cwV 1 hts (lw_V q1169 q1171 qs59 q88 q1172) rfl rfl rfl (by decide +kernel) ⟨Nat.le_of_ble_eq_true rfl, Nat.le_of_ble_eq_true rfl⟩) hKX hP hS (va_recv hK hP (ci := 1) (q0 := 0) rfl rfl) rfl hl.1 rfl (Nat.le_of_ble_eq_true rfl) dX1_byLot_147 ⟨Nat.le_of_ble_eq_true rfl, Nat.le_of_ble_eq_true rfl⟩ (fun H locs hP hS => ?_)
        refine lv_pop hx hb dX1_byLot_150 rfl ?_
        exact zk_vret hx hb hr hlk (zk_pB hf hP) hS dX1_byLot_151
      · refine lv_aload_n hx hb dX1_byLot_124 rfl (lv_at hl 4 rfl) ?_
        refine zm_rget hx hb hts hown hK hP 0 (by decide) q949 rfl dX1_byLot_125 ?_
        refine zk_iconst hx hb dX1_byLot_128 ?_
        refine zk_iloadn hx hb dX1_byLot_129 rfl (lv_at hl 3 rfl) ?_
        refine zk_iadd hx hb dX1_byLot_130 ?_
        refine zk_lloadn hx hb dX1_byLot_131 rfl (lv_at hl 5 rfl) ?_
        refine zk_ldc2 hx hb 64 hown (hts _ q1366) rfl dX1_byLot_132 ?_
        refine zk_rldiv hx hb dX1_byLot_135 hf (fun hf => ?_)
        refine zk_ldc2 hx hb 10 hown (hts _ q1274) rfl dX1_byLot_136 ?_
        refine zk_rlrem hx hb dX1_byLot_139 hf (fun hf => ?_)
        refine zk_rl2i hx hb dX1_byLot_140 ?_
        refine zk_iastN hx hb hK hP hD hS 1 0 0 rfl rfl (N := 3305) ⟨by decide, by decide⟩ (zm_t0 _ _ _) hf dX1_byLot_141 (fun s7 H locs hf hP hS => ?_)
        refine lv_goto (tgt := 151) hx hb dX1_byLot_142 (by decide) ?_
        exact zk_vret hx hb hr hlk (zk_pB hf hP) hS dX1_byLot_151
    · refine lv_aload_n hx hb dX1_byLot_90 rfl (lv_at hl 4 rfl) ?_
      refine zm_rget hx hb hts hown hK hP 0 (by decide) q949 rfl dX1_byLot_91 ?_
      refine zk_bipush hx hb dX1_byLot_94 (by decide) ?_
      refine zk_iloadn hx hb dX1_byLot_96 rfl (lv_at hl 3 rfl) ?_
      refine zk_iadd hx hb dX1_byLot_97 ?_
      refine zk_iload hx hb dX1_byLot_98 (lv_at hl 0 rfl) ?_
      refine zk_iload hx hb dX1_byLot_100 (lv_at hl 1 rfl) ?_
      obtain ⟨hg, hf⟩ := zk_gs hf
      have hV : W p l e zw_X1_byLot_rm s m (zw_X1_byLot_vs o p1).toArray below meth c H locs 0 0 (MQ below (zk_Q none (fun t => va_P D zk_cl (zm_P o a dA σ') t.heap) A) (zw_X1_byLot_vs o p1).toArray s 0 0 A) (F0 m 114 ls [zk_I (if x5_3 ≤ x6_4 then x6_4 - x5_3 else 0), zk_I (9 + x3_1), .ref (a 0)]) := by
        refine zk_iastN hx hb hK hP hD hS 1 0 0 rfl rfl (N := 3305) ⟨by decide, by decide⟩ (zm_t0 _ _ _) hf dX1_byLot_114 (fun s8 H locs hf hP hS => ?_)
        refine lv_goto (tgt := 151) hx hb dX1_byLot_115 (by decide) ?_
        exact zk_vret hx hb hr hlk (zk_pB hf hP) hS dX1_byLot_151
      refine zk_icmp_geV (tgt := 109) hx hb dX1_byLot_102 (by decide) ((fun h => h) hg) (fun hc => ?_) (fun hc => ?_)
      · rw [if_pos hc] at hV
        refine zk_iload hx hb dX1_byLot_109 (lv_at hl 0 rfl) ?_
        refine zk_iload hx hb dX1_byLot_111 (lv_at hl 1 rfl) ?_
        refine zk_isub hx hb dX1_byLot_113 ?_
        exact hV
      · rw [if_neg hc] at hV
        refine zk_iconst hx hb dX1_byLot_105 ?_
        refine lv_goto (tgt := 114) hx hb dX1_byLot_106 (by decide) ?_
        exact hV
  · refine lv_aload_n hx hb dX1_byLot_52 rfl (lv_at hl 4 rfl) ?_
    refine zm_rget hx hb hts hown hK hP 0 (by decide) q949 rfl dX1_byLot_53 ?_
    refine zk_bipush hx hb dX1_byLot_56 (by decide) ?_
    refine zk_iloadn hx hb dX1_byLot_58 rfl (lv_at hl 3 rfl) ?_
    refine zk_iadd hx hb dX1_byLot_59 ?_
    refine zk_iload hx hb dX1_byLot_60 (lv_at hl 0 rfl) ?_
    refine zk_iload hx hb dX1_byLot_62 (lv_at hl 1 rfl) ?_
    refine zk_iadd hx hb dX1_byLot_64 ?_
    refine zk_bipush hx hb dX1_byLot_65 (by decide) ?_
    obtain ⟨hg, hf⟩ := zk_gs hf
    have hV : W p l e zw_X1_byLot_rm s m (zw_X1_byLot_vs o p1).toArray below meth c H locs 0 0 (MQ below (zk_Q none (fun t => va_P D zk_cl (zm_P o a dA σ') t.heap) A) (zw_X1_byLot_vs o p1).toArray s 0 0 A) (F0 m 80 ls [zk_I (if (x6_4 + x5_3) ≤ 20 then x6_4 + x5_3 else 20), zk_I (9 + x3_1), .ref (a 0)]) := by
      refine zk_iastN hx hb hK hP hD hS 1 0 0 rfl rfl (N := 3305) ⟨by decide, by decide⟩ (zm_t0 _ _ _) hf dX1_byLot_80 (fun s9 H locs hf hP hS => ?_)
      refine lv_goto (tgt := 151) hx hb dX1_byLot_81 (by decide) ?_
      exact zk_vret hx hb hr hlk (zk_pB hf hP) hS dX1_byLot_151
    refine zk_icmp_leV (tgt := 75) hx hb dX1_byLot_67 (by decide) ((fun h => ⟨h, by decide⟩) hg) (fun hc => ?_) (fun hc => ?_)
    · rw [if_pos hc] at hV
      refine zk_iload hx hb dX1_byLot_75 (lv_at hl 0 rfl) ?_
      refine zk_iload hx hb dX1_byLot_77 (lv_at hl 1 rfl) ?_
      refine zk_iadd hx hb dX1_byLot_79 ?_
      exact hV
    · rw [if_neg hc] at hV
      refine zk_bipush hx hb dX1_byLot_70 (by decide) ?_
      refine lv_goto (tgt := 80) hx hb dX1_byLot_72 (by decide) ?_
      exact hV
abbrev zw_X1_lots_rm : Room := { frames := 7, cells := 0, slots := 0, locals := 174 }
abbrev zw_X1_lots_vs (o : Nat) (p1 p2 : Int) : List Value := [.ref o, zk_I p1, zk_I p2]
set_option maxHeartbeats 4000000 in
set_option maxRecDepth 100000 in
theorem zw_X1_lots (l : Launch) {D : va_G} {o : Nat} {a : Nat → Nat} {dA : Nat → ClassId} {A : Nat → Prop} (hD : ∀ τ, va_D A (zm_P o a dA τ)) (N : Nat) (p1 p2 : Int) (σ : ZS) (r : Int) (σ' : ZS) (hf : zm_lots N p1 p2 σ = some (r, σ')) : zk_MW l yX1_lots (ws_ yX1_lots cX1_lots 6 (Option.some Jvm.ClassFile.FieldType.int)) zw_X1_lots_rm D zk_cl (zk_ty dA) A (zw_X1_lots_vs o p1 p2) (zm_P o a dA σ) (zm_P o a dA σ') (some (zk_I r)) := by
  refine zk_startW (by decide +kernel) (Nat.le_of_ble_eq_true rfl) (fun p e s m below meth c H locs ls hx hb hr hlk hml hown hts hKX hP hS hl => ?_)
  have hl : lv_has ls 6 [(0, .ref o), (1, zk_I p1), (2, zk_I p2)] := hl
  have hK := hKX.1
  have hown : s.vm.findClass RX1 = some m.cls := hown
  have hf : zm_lots N p1 p2 σ = some (r, σ') := hf
  have hJ89 : ∀ (s0 : ZS) (H : Heap) (locs : List Loc) (ls : Array Slot), zm_lots_j89 N  s0 = some (r, σ') → lv_has ls 6 [(0, .ref o)] → va_P D zk_cl (zm_P o a dA s0) H → va_S A s.heap H locs → W p l e zw_X1_lots_rm s m (zw_X1_lots_vs o p1 p2).toArray below meth c H locs 0 0 (MQ below (zk_Q (some (zk_I r)) (fun t => va_P D zk_cl (zm_P o a dA σ') t.heap) A) (zw_X1_lots_vs o p1 p2).toArray s 0 0 A) (F0 m 89 ls []) := by
    intro s0 H locs ls hf hl hP hS
    refine lv_aload_n hx hb dX1_lots_89 rfl (lv_at hl 0 rfl) ?_
    refine zm_rget hx hb hts hown hK hP 0 (by decide) q949 rfl dX1_lots_90 ?_
    refine zk_iconst hx hb dX1_lots_93 ?_
    refine zk_iald hx hb hK hP 1 0 rfl rfl (N := 3305) ⟨by decide, by decide⟩ hf dX1_lots_94 (fun hf => ?_)
    exact zk_iret hx hb hr hlk (zk_p1 hf) (zk_pB hf hP) hS dX1_lots_95
  have hL58 : ∀ (n : Nat) (x1 x3 x5 : Int) (s0 : ZS) (H : Heap) (locs : List Loc) (ls : Array Slot), zk_b (zk_loop (α := Int × Int × ZS) (β := ZS) n (fun a => zm_lots_b58 N x1 a.1 a.2.1 a.2.2) (x3, x5, s0)) (fun e => zm_lots_j89 N e) = some (r, σ') → lv_has ls 6 [(0, .ref o), (1, zk_I x1), (3, zk_L x3), (5, zk_I x5)] → va_P D zk_cl (zm_P o a dA s0) H → va_S A s.heap H locs → W p l e zw_X1_lots_rm s m (zw_X1_lots_vs o p1 p2).toArray below meth c H locs 0 0 (MQ below (zk_Q (some (zk_I r)) (fun t => va_P D zk_cl (zm_P o a dA σ') t.heap) A) (zw_X1_lots_vs o p1 p2).toArray s 0 0 A) (F0 m 58 ls []) := by
    intro n
    induction n with
    | zero => intro x1 x3 x5 s0 H locs ls hf; exact (zk_l0 hf).elim
    | succ n ih58 =>
      intro x1 x3 x5 s0 H locs ls hf hl hP hS
      obtain ⟨c58, hf, hc58⟩ := zk_ls hf
      refine zk_iload hx hb dX1_lots_58 (lv_at hl 3 rfl) ?_
      refine zk_iloadn hx hb dX1_lots_60 rfl (lv_at hl 1 rfl) ?_
      refine zk_icmp_ge (tgt := 89) hx hb dX1_lots_61 (by decide) hf (fun h => h) (fun hf => ?_) (fun hf => ?_)
      · obtain rfl := zk_so hf
        exact hJ89 _ H locs ls hc58 (lv_sub hl [0] rfl) hP hS
      · refine zk_lloadn hx hb dX1_lots_64 rfl (lv_at hl 2 rfl) ?_
        refine zk_ldc2 hx hb 48271 hown (hts _ q1359) rfl dX1_lots_65 ?_
        refine zk_lmul hx hb dX1_lots_68 ?_
        refine zk_ldc2 hx hb 2147483647 hown (hts _ q1360) rfl dX1_lots_69 ?_
        refine zk_rlrem hx hb dX1_lots_72 hf (fun hf => ?_)
        refine zk_lstorenN (lv' := fun x3_3 => [(3, zk_L x3_3), (0, .ref o), (1, zk_I x1), (5, zk_I x5)]) hx hb dX1_lots_73 rfl hl (by decide) (fun _ => rfl) hf (fun x3_3 hf ls hl => ?_)
        refine lv_aload_n hx hb dX1_lots_74 rfl (lv_at hl 1 rfl) ?_
        obtain ⟨v4, s5, hq, hf⟩ := zk_b2s hf
        refine zk_callVW (As := []) (rest := []) ⟨hx, hb, hml, hown, hts⟩ (zw_X1_keepPast l hD N  s0 _ _ hq) (cwV 0 hts (lw_V q1165 q1167 qs58 q88 q1168) rfl rfl rfl (by decide +kernel) ⟨Nat.le_of_ble_eq_true rfl, Nat.le_of_ble_eq_true rfl⟩) hKX hP hS (va_recv hK hP (ci := 1) (q0 := 0) rfl rfl) rfl hl.1 rfl (Nat.le_of_ble_eq_true rfl) dX1_lots_75 ⟨Nat.le_of_ble_eq_true rfl, Nat.le_of_ble_eq_true rfl⟩ (fun H locs hP hS => ?_)
        refine lv_aload_n hx hb dX1_lots_78 rfl (lv_at hl 1 rfl) ?_
        refine zk_lloadn hx hb dX1_lots_79 rfl (lv_at hl 0 rfl) ?_
        obtain ⟨v6, s7, hq, hf⟩ := zk_b2s hf
        refine zk_callVW (As := [zk_L x3_3]) (rest := []) ⟨hx, hb, hml, hown, hts⟩ (zw_X1_byLot l hD N x3_3 s5 _ _ hq) (cwV 1 hts (lw_V q1361 q1363 qs81 q88 q1364) rfl rfl rfl (by decide +kernel) ⟨Nat.le_of_ble_eq_true rfl, Nat.le_of_ble_eq_true rfl⟩) hKX hP hS (va_recv hK hP (ci := 1) (q0 := 0) rfl rfl) rfl hl.1 rfl (Nat.le_of_ble_eq_true rfl) dX1_lots_80 ⟨Nat.le_of_ble_eq_true rfl, Nat.le_of_ble_eq_true rfl⟩ (fun H locs hP hS => ?_)
        refine zk_iincN (lv' := fun x5_8 => [(5, zk_I x5_8), (3, zk_L x3_3), (0, .ref o), (1, zk_I x1)]) hx hb dX1_lots_83 hl (k := 3) rfl (by decide) (fun _ => rfl) hf (fun x5_8 hf ls hl => ?_)
        refine lv_goto (tgt := 58) hx hb dX1_lots_86 (by decide) ?_
        obtain rfl := zk_so hf
        exact ih58 _ _ _ _ H locs ls hc58 (lv_sub hl [2, 3, 1, 0] rfl) hP hS
  refine zk_iloadn hx hb dX1_lots_0 rfl (lv_at hl 1 rfl) ?_
  refine zk_ri2l hx hb dX1_lots_1 hf (fun hf => ?_)
  refine zk_lconst (v := 1) hx hb dX1_lots_2 rfl ?_
  refine zk_ldc2 hx hb 20 hown (hts _ q1193) rfl dX1_lots_3 ?_
  obtain ⟨v1, hq, hf⟩ := zk_bs hf
  refine zk_callSS (As := [zk_L p1, zk_L 1, zk_L 20]) (rest := []) ⟨hx, hb, hml, hown, hts⟩ (zw_X1_in l p1 1 20 _ hq) (va_cwS 3 hts (lw_S q1027 q1028 q88 q1029) rfl rfl rfl (by decide +kernel) ⟨Nat.le_of_ble_eq_true rfl, Nat.le_of_ble_eq_true rfl⟩) hP hS rfl hl.1 rfl (Nat.le_of_ble_eq_true rfl) dX1_lots_6 ⟨Nat.le_of_ble_eq_true rfl, Nat.le_of_ble_eq_true rfl⟩ (fun H locs hP hS => ?_)
  refine zk_if_eq (tgt := 24) hx hb dX1_lots_9 (by decide) hf (fun h => h) (fun hf => ?_) (fun hf => ?_)
  · refine zk_iconst hx hb dX1_lots_24 ?_
    exact zk_iret hx hb hr hlk (zk_p1 hf) (zk_pB hf hP) hS dX1_lots_25
  · refine zk_iloadn hx hb dX1_lots_12 rfl (lv_at hl 2 rfl) ?_
    refine zk_ri2l hx hb dX1_lots_13 hf (fun hf => ?_)
    refine zk_lconst (v := 1) hx hb dX1_lots_14 rfl ?_
    refine zk_ldc2 hx hb 2147483646 hown (hts _ q1358) rfl dX1_lots_15 ?_
    obtain ⟨v2, hq, hf⟩ := zk_bs hf
    refine zk_callSS (As := [zk_L p2, zk_L 1, zk_L 2147483646]) (rest := []) ⟨hx, hb, hml, hown, hts⟩ (zw_X1_in l p2 1 2147483646 _ hq) (va_cwS 3 hts (lw_S q1027 q1028 q88 q1029) rfl rfl rfl (by decide +kernel) ⟨Nat.le_of_ble_eq_true rfl, Nat.le_of_ble_eq_true rfl⟩) hP hS rfl hl.1 rfl (Nat.le_of_ble_eq_true rfl) dX1_lots_18 ⟨Nat.le_of_ble_eq_true rfl, Nat.le_of_ble_eq_true rfl⟩ (fun H locs hP hS => ?_)
    refine zk_if_ne (tgt := 26) hx hb dX1_lots_21 (by decide) hf (fun h => h) (fun hf => ?_) (fun hf => ?_)
    · refine lv_aload_n hx hb dX1_lots_26 rfl (lv_at hl 0 rfl) ?_
      refine zm_rget hx hb hts hown hK hP 1 (by decide) q950 rfl dX1_lots_27 ?_
      refine zk_if_ne (tgt := 36) hx hb dX1_lots_30 (by decide) hf (fun h => h) (fun hf => ?_) (fun hf => ?_)
      · refine lv_aload_n hx hb dX1_lots_36 rfl (lv_at hl 0 rfl) ?_
        refine zm_rget hx hb hts hown hK hP 0 (by decide) q949 rfl dX1_lots_37 ?_
        refine zk_iconst hx hb dX1_lots_40 ?_
        refine zk_iald hx hb hK hP 1 0 rfl rfl (N := 3305) ⟨by decide, by decide⟩ hf dX1_lots_41 (fun hf => ?_)
        refine zk_iloadn hx hb dX1_lots_42 rfl (lv_at hl 1 rfl) ?_
        refine zk_iadd hx hb dX1_lots_43 ?_
        refine zk_bipush hx hb dX1_lots_44 (by decide) ?_
        refine zk_icmp_le (tgt := 52) hx hb dX1_lots_46 (by decide) hf (fun h => ⟨h, by decide⟩) (fun hf => ?_) (fun hf => ?_)
        · refine zk_iloadn hx hb dX1_lots_52 rfl (lv_at hl 2 rfl) ?_
          refine zk_ri2l hx hb dX1_lots_53 hf (fun hf => ?_)
          refine lv_lstore_n (lv' := [(3, zk_L p2), (0, .ref o), (1, zk_I p1), (2, zk_I p2)]) hx hb dX1_lots_54 rfl hl (by decide) rfl (fun ls hl => ?_)
          refine zk_iconst hx hb dX1_lots_55 ?_
          refine lv_istore (lv' := [(5, zk_I 0), (3, zk_L p2), (0, .ref o), (1, zk_I p1), (2, zk_I p2)]) hx hb dX1_lots_56 hl (by decide) rfl (fun ls hl => ?_)
          exact hL58 N _ _ _ _ H locs ls hf (lv_sub hl [2, 3, 1, 0] rfl) hP hS
        · refine zk_bipush hx hb dX1_lots_49 (by decide) ?_
          exact zk_iret hx hb hr hlk (zk_p1 hf) (zk_pB hf hP) hS dX1_lots_51
      · refine zk_bipush hx hb dX1_lots_33 (by decide) ?_
        exact zk_iret hx hb hr hlk (zk_p1 hf) (zk_pB hf hP) hS dX1_lots_35
    · refine zk_iconst hx hb dX1_lots_24 ?_
      exact zk_iret hx hb hr hlk (zk_p1 hf) (zk_pB hf hP) hS dX1_lots_25
abbrev zw_X1_asked_rm : Room := { frames := 1, cells := 0, slots := 0, locals := 32 }
abbrev zw_X1_asked_vs (o : Nat) : List Value := [.ref o]
set_option maxHeartbeats 4000000 in
set_option maxRecDepth 100000 in
theorem zw_X1_asked (l : Launch) {D : va_G} {o : Nat} {a : Nat → Nat} {dA : Nat → ClassId} (σ : ZS) (r : Int) (hf : zm_asked  σ = some r) : zk_MR l yX1_asked (ws_ yX1_asked cX1_asked 1 (Option.some Jvm.ClassFile.FieldType.int)) zw_X1_asked_rm D zk_cl (zk_ty dA) (zw_X1_asked_vs o) (zm_P o a dA σ) (some (zk_I r)) := by
  refine zk_startW (by decide +kernel) (Nat.le_of_ble_eq_true rfl) (fun p e s m below meth c H locs ls hx hb hr hlk hml hown hts hKX hP hS hl => ?_)
  have hl : lv_has ls 1 [(0, .ref o)] := hl
  have hK := hKX.1
  have hown : s.vm.findClass RX1 = some m.cls := hown
  have hf : zm_asked  σ = some r := hf
  refine lv_aload_n hx hb dX1_asked_0 rfl (lv_at hl 0 rfl) ?_
  refine zm_rget hx hb hts hown hK hP 7 (by decide) q956 rfl dX1_asked_1 ?_
  exact zk_iret hx hb hr hlk (Option.some.inj hf) (fun _ _ => trivial) hS dX1_asked_4
abbrev zw_X1_upper_rm : Room := { frames := 1, cells := 0, slots := 0, locals := 32 }
abbrev zw_X1_upper_vs (o : Nat) : List Value := [.ref o]
set_option maxHeartbeats 4000000 in
set_option maxRecDepth 100000 in
theorem zw_X1_upper (l : Launch) {D : va_G} {o : Nat} {a : Nat → Nat} {dA : Nat → ClassId} (σ : ZS) (r : Int) (hf : zm_upper  σ = some r) : zk_MR l yX1_upper (ws_ yX1_upper cX1_upper 1 (Option.some Jvm.ClassFile.FieldType.long)) zw_X1_upper_rm D zk_cl (zk_ty dA) (zw_X1_upper_vs o) (zm_P o a dA σ) (some (zk_L r)) := by
  refine zk_startW (by decide +kernel) (Nat.le_of_ble_eq_true rfl) (fun p e s m below meth c H locs ls hx hb hr hlk hml hown hts hKX hP hS hl => ?_)
  have hl : lv_has ls 1 [(0, .ref o)] := hl
  have hK := hKX.1
  have hown : s.vm.findClass RX1 = some m.cls := hown
  have hf : zm_upper  σ = some r := hf
  refine lv_aload_n hx hb dX1_upper_0 rfl (lv_at hl 0 rfl) ?_
  refine zm_rget hx hb hts hown hK hP 8 (by decide) q957 rfl dX1_upper_1 ?_
  exact zk_lret hx hb hr hlk (Option.some.inj hf) (fun _ _ => trivial) hS dX1_upper_4
abbrev zw_X1_lower_rm : Room := { frames := 1, cells := 0, slots := 0, locals := 32 }
abbrev zw_X1_lower_vs (o : Nat) : List Value := [.ref o]
set_option maxHeartbeats 4000000 in
set_option maxRecDepth 100000 in
theorem zw_X1_lower (l : Launch) {D : va_G} {o : Nat} {a : Nat → Nat} {dA : Nat → ClassId} (σ : ZS) (r : Int) (hf : zm_lower  σ = some r) : zk_MR l yX1_lower (ws_ yX1_lower cX1_lower 1 (Option.some Jvm.ClassFile.FieldType.long)) zw_X1_lower_rm D zk_cl (zk_ty dA) (zw_X1_lower_vs o) (zm_P o a dA σ) (some (zk_L r)) := by
  refine zk_startW (by decide +kernel) (Nat.le_of_ble_eq_true rfl) (fun p e s m below meth c H locs ls hx hb hr hlk hml hown hts hKX hP hS hl => ?_)
  have hl : lv_has ls 1 [(0, .ref o)] := hl
  have hK := hKX.1
  have hown : s.vm.findClass RX1 = some m.cls := hown
  have hf : zm_lower  σ = some r := hf
  refine lv_aload_n hx hb dX1_lower_0 rfl (lv_at hl 0 rfl) ?_
  refine zm_rget hx hb hts hown hK hP 9 (by decide) q958 rfl dX1_lower_1 ?_
  exact zk_lret hx hb hr hlk (Option.some.inj hf) (fun _ _ => trivial) hS dX1_lower_4
abbrev zw_X1_crossedByAll_rm : Room := { frames := 1, cells := 0, slots := 0, locals := 32 }
abbrev zw_X1_crossedByAll_vs (o : Nat) : List Value := [.ref o]
set_option maxHeartbeats 4000000 in
set_option maxRecDepth 100000 in
theorem zw_X1_crossedByAll (l : Launch) {D : va_G} {o : Nat} {a : Nat → Nat} {dA : Nat → ClassId} (N : Nat) (σ : ZS) (r : Int) (hf : zm_crossedByAll N  σ = some r) : zk_MR l yX1_crossedByAll (ws_ yX1_crossedByAll cX1_crossedByAll 3 (Option.some Jvm.ClassFile.FieldType.int)) zw_X1_crossedByAll_rm D zk_cl (zk_ty dA) (zw_X1_crossedByAll_vs o) (zm_P o a dA σ) (some (zk_I r)) := by
  refine zk_startW (by decide +kernel) (Nat.le_of_ble_eq_true rfl) (fun p e s m below meth c H locs ls hx hb hr hlk hml hown hts hKX hP hS hl => ?_)
  have hl : lv_has ls 3 [(0, .ref o)] := hl
  have hK := hKX.1
  have hown : s.vm.findClass RX1 = some m.cls := hown
  have hf : zm_crossedByAll N  σ = some r := hf
  have hJ30 : ∀ (x1 : Int) (H : Heap) (locs : List Loc) (ls : Array Slot), zm_crossedByAll_j30 N x1 σ = some r → lv_has ls 3 [(1, zk_I x1)] → va_P D zk_cl (zm_P o a dA σ) H → va_S (fun _ => False) s.heap H locs → W p l e zw_X1_crossedByAll_rm s m (zw_X1_crossedByAll_vs o).toArray below meth c H locs 0 0 (MQ below (zk_Q (some (zk_I r)) (fun _ => True) (fun _ => False)) (zw_X1_crossedByAll_vs o).toArray s 0 0 (fun _ => False)) (F0 m 30 ls []) := by
    intro x1 H locs ls hf hl hP hS
    refine zk_iloadn hx hb dX1_crossedByAll_30 rfl (lv_at hl 0 rfl) ?_
    exact zk_iret hx hb hr hlk (Option.some.inj hf) (fun _ _ => trivial) hS dX1_crossedByAll_31
  have hL4 : ∀ (n : Nat) (x1 x2 : Int) (H : Heap) (locs : List Loc) (ls : Array Slot), zk_b (zk_loop (α := Int × Int) (β := Int) n (fun a => zm_crossedByAll_b4 N a.1 a.2 σ) (x1, x2)) (fun e => zm_crossedByAll_j30 N e σ) = some r → lv_has ls 3 [(0, .ref o), (1, zk_I x1), (2, zk_I x2)] → va_P D zk_cl (zm_P o a dA σ) H → va_S (fun _ => False) s.heap H locs → W p l e zw_X1_crossedByAll_rm s m (zw_X1_crossedByAll_vs o).toArray below meth c H locs 0 0 (MQ below (zk_Q (some (zk_I r)) (fun _ => True) (fun _ => False)) (zw_X1_crossedByAll_vs o).toArray s 0 0 (fun _ => False)) (F0 m 4 ls []) := by
    intro n
    induction n with
    | zero => intro x1 x2 H locs ls hf; exact (zk_l0 hf).elim
    | succ n ih4 =>
      intro x1 x2 H locs ls hf hl hP hS
      obtain ⟨c4, hf, hc4⟩ := zk_ls hf
      refine zk_iloadn hx hb dX1_crossedByAll_4 rfl (lv_at hl 2 rfl) ?_
      refine lv_aload_n hx hb dX1_crossedByAll_5 rfl (lv_at hl 0 rfl) ?_
      refine zm_rget hx hb hts hown hK hP 1 (by decide) q950 rfl dX1_crossedByAll_6 ?_
      refine zk_icmp_ge (tgt := 30) hx hb dX1_crossedByAll_9 (by decide) hf (fun h => h) (fun hf => ?_) (fun hf => ?_)
      · obtain rfl := zk_so hf
        exact hJ30 _ H locs ls hc4 (lv_sub hl [1] rfl) hP hS
      · refine zk_iloadn hx hb dX1_crossedByAll_12 rfl (lv_at hl 1 rfl) ?_
        refine lv_aload_n hx hb dX1_crossedByAll_13 rfl (lv_at hl 0 rfl) ?_
        refine zm_rget hx hb hts hown hK hP 0 (by decide) q949 rfl dX1_crossedByAll_14 ?_
        refine zk_bipush hx hb dX1_crossedByAll_17 (by decide) ?_
        refine zk_iloadn hx hb dX1_crossedByAll_19 rfl (lv_at hl 2 rfl) ?_
        refine zk_iadd hx hb dX1_crossedByAll_20 ?_
        refine zk_iald hx hb hK hP 1 0 rfl rfl (N := 3305) ⟨by decide, by decide⟩ hf dX1_crossedByAll_21 (fun hf => ?_)
        refine zk_iadd hx hb dX1_crossedByAll_22 ?_
        refine zk_istorenN (lv' := fun x1_1 => [(1, zk_I x1_1), (0, .ref o), (2, zk_I x2)]) hx hb dX1_crossedByAll_23 rfl hl (by decide) (fun _ => rfl) hf (fun x1_1 hf ls hl => ?_)
        refine zk_iincN (lv' := fun x2_2 => [(2, zk_I x2_2), (1, zk_I x1_1), (0, .ref o)]) hx hb dX1_crossedByAll_24 hl (k := 2) rfl (by decide) (fun _ => rfl) hf (fun x2_2 hf ls hl => ?_)
        refine lv_goto (tgt := 4) hx hb dX1_crossedByAll_27 (by decide) ?_
        obtain rfl := zk_so hf
        exact ih4 _ _ H locs ls hc4 (lv_sub hl [2, 1, 0] rfl) hP hS
  refine zk_iconst hx hb dX1_crossedByAll_0 ?_
  refine lv_istore_n (lv' := [(1, zk_I 0), (0, .ref o)]) hx hb dX1_crossedByAll_1 rfl hl (by decide) rfl (fun ls hl => ?_)
  refine zk_iconst hx hb dX1_crossedByAll_2 ?_
  refine lv_istore_n (lv' := [(2, zk_I 0), (1, zk_I 0), (0, .ref o)]) hx hb dX1_crossedByAll_3 rfl hl (by decide) rfl (fun ls hl => ?_)
  exact hL4 N _ _ H locs ls hf (lv_sub hl [2, 1, 0] rfl) hP hS
abbrev zw_X1_those_rm : Room := { frames := 2, cells := 0, slots := 0, locals := 55 }
abbrev zw_X1_those_vs (o : Nat) (p1 : Int) : List Value := [.ref o, zk_I p1]
set_option maxHeartbeats 4000000 in
set_option maxRecDepth 100000 in
theorem zw_X1_those (l : Launch) {D : va_G} {o : Nat} {a : Nat → Nat} {dA : Nat → ClassId} (N : Nat) (p1 : Int) (σ : ZS) (r : Int) (hf : zm_those N p1 σ = some r) : zk_MR l yX1_those (ws_ yX1_those cX1_those 4 (Option.some Jvm.ClassFile.FieldType.int)) zw_X1_those_rm D zk_cl (zk_ty dA) (zw_X1_those_vs o p1) (zm_P o a dA σ) (some (zk_I r)) := by
  refine zk_startW (by decide +kernel) (Nat.le_of_ble_eq_true rfl) (fun p e s m below meth c H locs ls hx hb hr hlk hml hown hts hKX hP hS hl => ?_)
  have hl : lv_has ls 4 [(0, .ref o), (1, zk_I p1)] := hl
  have hK := hKX.1
  have hown : s.vm.findClass RX1 = some m.cls := hown
  have hf : zm_those N p1 σ = some r := hf
  have hJ35 : ∀ (x2 : Int) (H : Heap) (locs : List Loc) (ls : Array Slot), zm_those_j35 N x2 σ = some r → lv_has ls 4 [(2, zk_I x2)] → va_P D zk_cl (zm_P o a dA σ) H → va_S (fun _ => False) s.heap H locs → W p l e zw_X1_those_rm s m (zw_X1_those_vs o p1).toArray below meth c H locs 0 0 (MQ below (zk_Q (some (zk_I r)) (fun _ => True) (fun _ => False)) (zw_X1_those_vs o p1).toArray s 0 0 (fun _ => False)) (F0 m 35 ls []) := by
    intro x2 H locs ls hf hl hP hS
    refine zk_iloadn hx hb dX1_those_35 rfl (lv_at hl 0 rfl) ?_
    exact zk_iret hx hb hr hlk (Option.some.inj hf) (fun _ _ => trivial) hS dX1_those_36
  have hL4 : ∀ (n : Nat) (x1 x2 x3 : Int) (H : Heap) (locs : List Loc) (ls : Array Slot), zk_b (zk_loop (α := Int × Int) (β := Int) n (fun a => zm_those_b4 N x1 a.1 a.2 σ) (x2, x3)) (fun e => zm_those_j35 N e σ) = some r → lv_has ls 4 [(0, .ref o), (1, zk_I x1), (2, zk_I x2), (3, zk_I x3)] → va_P D zk_cl (zm_P o a dA σ) H → va_S (fun _ => False) s.heap H locs → W p l e zw_X1_those_rm s m (zw_X1_those_vs o p1).toArray below meth c H locs 0 0 (MQ below (zk_Q (some (zk_I r)) (fun _ => True) (fun _ => False)) (zw_X1_those_vs o p1).toArray s 0 0 (fun _ => False)) (F0 m 4 ls []) := by
    intro n
    induction n with
    | zero => intro x1 x2 x3 H locs ls hf; exact (zk_l0 hf).elim
    | succ n ih4 =>
      intro x1 x2 x3 H locs ls hf hl hP hS
      obtain ⟨c4, hf, hc4⟩ := zk_ls hf
      refine zk_iloadn hx hb dX1_those_4 rfl (lv_at hl 3 rfl) ?_
      refine lv_aload_n hx hb dX1_those_5 rfl (lv_at hl 0 rfl) ?_
      refine zm_rget hx hb hts hown hK hP 1 (by decide) q950 rfl dX1_those_6 ?_
      refine zk_icmp_ge (tgt := 35) hx hb dX1_those_9 (by decide) hf (fun h => h) (fun hf => ?_) (fun hf => ?_)
      · obtain rfl := zk_so hf
        exact hJ35 _ H locs ls hc4 (lv_sub hl [2] rfl) hP hS
      · refine zk_iloadn hx hb dX1_those_12 rfl (lv_at hl 2 rfl) ?_
        refine lv_aload_n hx hb dX1_those_13 rfl (lv_at hl 0 rfl) ?_
        refine zk_iloadn hx hb dX1_those_14 rfl (lv_at hl 3 rfl) ?_
        refine zk_iloadn hx hb dX1_those_15 rfl (lv_at hl 1 rfl) ?_
        obtain ⟨v1, hq, hf⟩ := zk_bs hf
        refine zk_callVR (As := [zk_I x3, zk_I x1]) (rest := [zk_I x2]) ⟨hx, hb, hml, hown, hts⟩ (zw_X1_isOf l x3 x1 σ _ hq) (cwV 2 hts (lw_V q1153 q1155 qs56 q88 q1156) rfl rfl rfl (by decide +kernel) ⟨Nat.le_of_ble_eq_true rfl, Nat.le_of_ble_eq_true rfl⟩) hKX hP hS (va_recv hK hP (ci := 1) (q0 := 0) rfl rfl) rfl hl.1 rfl (Nat.le_of_ble_eq_true rfl) dX1_those_16 ⟨Nat.le_of_ble_eq_true rfl, Nat.le_of_ble_eq_true rfl⟩ (fun H locs hP hS => ?_)
        obtain ⟨hg, hf⟩ := zk_gs hf
        have hV : W p l e zw_X1_those_rm s m (zw_X1_those_vs o p1).toArray below meth c H locs 0 0 (MQ below (zk_Q (some (zk_I r)) (fun _ => True) (fun _ => False)) (zw_X1_those_vs o p1).toArray s 0 0 (fun _ => False)) (F0 m 27 ls [zk_I (if v1 = 0 then 0 else 1), zk_I x2]) := by
          refine zk_iadd hx hb dX1_those_27 ?_
          refine zk_istorenN (lv' := fun x2_2 => [(2, zk_I x2_2), (0, .ref o), (1, zk_I x1), (3, zk_I x3)]) hx hb dX1_those_28 rfl hl (by decide) (fun _ => rfl) hf (fun x2_2 hf ls hl => ?_)
          refine zk_iincN (lv' := fun x3_3 => [(3, zk_I x3_3), (2, zk_I x2_2), (0, .ref o), (1, zk_I x1)]) hx hb dX1_those_29 hl (k := 3) rfl (by decide) (fun _ => rfl) hf (fun x3_3 hf ls hl => ?_)
          refine lv_goto (tgt := 4) hx hb dX1_those_32 (by decide) ?_
          obtain rfl := zk_so hf
          exact ih4 _ _ _ H locs ls hc4 (lv_sub hl [2, 3, 1, 0] rfl) hP hS
        refine zk_if_eqV (tgt := 26) hx hb dX1_those_19 (by decide) ((fun h => h) hg) (fun hc => ?_) (fun hc => ?_)
        · rw [if_pos hc] at hV
          refine zk_iconst hx hb dX1_those_26 ?_
          exact hV
        · rw [if_neg hc] at hV
          refine zk_iconst hx hb dX1_those_22 ?_
          refine lv_goto (tgt := 27) hx hb dX1_those_23 (by decide) ?_
          exact hV
  refine zk_iconst hx hb dX1_those_0 ?_
  refine lv_istore_n (lv' := [(2, zk_I 0), (0, .ref o), (1, zk_I p1)]) hx hb dX1_those_1 rfl hl (by decide) rfl (fun ls hl => ?_)
  refine zk_iconst hx hb dX1_those_2 ?_
  refine lv_istore_n (lv' := [(3, zk_I 0), (2, zk_I 0), (0, .ref o), (1, zk_I p1)]) hx hb dX1_those_3 rfl hl (by decide) rfl (fun ls hl => ?_)
  exact hL4 N _ _ _ H locs ls hf (lv_sub hl [2, 3, 1, 0] rfl) hP hS
abbrev zw_X1_thereOf_rm : Room := { frames := 1, cells := 0, slots := 0, locals := 32 }
abbrev zw_X1_thereOf_vs (o : Nat) (p1 : Int) : List Value := [.ref o, zk_I p1]
set_option maxHeartbeats 4000000 in
set_option maxRecDepth 100000 in
theorem zw_X1_thereOf (l : Launch) {D : va_G} {o : Nat} {a : Nat → Nat} {dA : Nat → ClassId} (N : Nat) (p1 : Int) (σ : ZS) (r : Int) (hf : zm_thereOf N p1 σ = some r) : zk_MR l yX1_thereOf (ws_ yX1_thereOf cX1_thereOf 4 (Option.some Jvm.ClassFile.FieldType.int)) zw_X1_thereOf_rm D zk_cl (zk_ty dA) (zw_X1_thereOf_vs o p1) (zm_P o a dA σ) (some (zk_I r)) := by
  refine zk_startW (by decide +kernel) (Nat.le_of_ble_eq_true rfl) (fun p e s m below meth c H locs ls hx hb hr hlk hml hown hts hKX hP hS hl => ?_)
  have hl : lv_has ls 4 [(0, .ref o), (1, zk_I p1)] := hl
  have hK := hKX.1
  have hown : s.vm.findClass RX1 = some m.cls := hown
  have hf : zm_thereOf N p1 σ = some r := hf
  have hJ97 : ∀ (x2 : Int) (H : Heap) (locs : List Loc) (ls : Array Slot), zm_thereOf_j97 N x2 σ = some r → lv_has ls 4 [(2, zk_I x2)] → va_P D zk_cl (zm_P o a dA σ) H → va_S (fun _ => False) s.heap H locs → W p l e zw_X1_thereOf_rm s m (zw_X1_thereOf_vs o p1).toArray below meth c H locs 0 0 (MQ below (zk_Q (some (zk_I r)) (fun _ => True) (fun _ => False)) (zw_X1_thereOf_vs o p1).toArray s 0 0 (fun _ => False)) (F0 m 97 ls []) := by
    intro x2 H locs ls hf hl hP hS
    refine zk_iloadn hx hb dX1_thereOf_97 rfl (lv_at hl 0 rfl) ?_
    exact zk_iret hx hb hr hlk (Option.some.inj hf) (fun _ _ => trivial) hS dX1_thereOf_98
  have hL4 : ∀ (n : Nat) (x1 x2 x3 : Int) (H : Heap) (locs : List Loc) (ls : Array Slot), zk_b (zk_loop (α := Int × Int) (β := Int) n (fun a => zm_thereOf_b4 N x1 a.1 a.2 σ) (x2, x3)) (fun e => zm_thereOf_j97 N e σ) = some r → lv_has ls 4 [(0, .ref o), (1, zk_I x1), (2, zk_I x2), (3, zk_I x3)] → va_P D zk_cl (zm_P o a dA σ) H → va_S (fun _ => False) s.heap H locs → W p l e zw_X1_thereOf_rm s m (zw_X1_thereOf_vs o p1).toArray below meth c H locs 0 0 (MQ below (zk_Q (some (zk_I r)) (fun _ => True) (fun _ => False)) (zw_X1_thereOf_vs o p1).toArray s 0 0 (fun _ => False)) (F0 m 4 ls []) := by
    intro n
    induction n with
    | zero => intro x1 x2 x3 H locs ls hf; exact (zk_l0 hf).elim
    | succ n ih4 =>
      intro x1 x2 x3 H locs ls hf hl hP hS
      obtain ⟨c4, hf, hc4⟩ := zk_ls hf
      have hJ89 : ∀ (x3 y0 y1 : Int) (H : Heap) (locs : List Loc) (ls : Array Slot), zm_thereOf_j89 N x1 x3 y0 y1 σ = some c4 → lv_has ls 4 [(0, .ref o), (1, zk_I x1), (3, zk_I x3)] → va_P D zk_cl (zm_P o a dA σ) H → va_S (fun _ => False) s.heap H locs → W p l e zw_X1_thereOf_rm s m (zw_X1_thereOf_vs o p1).toArray below meth c H locs 0 0 (MQ below (zk_Q (some (zk_I r)) (fun _ => True) (fun _ => False)) (zw_X1_thereOf_vs o p1).toArray s 0 0 (fun _ => False)) (F0 m 89 ls [zk_I y1, zk_I y0]) := by
        intro x3 y0 y1 H locs ls hf hl hP hS
        refine zk_iadd hx hb dX1_thereOf_89 ?_
        refine zk_istorenN (lv' := fun x2_1 => [(2, zk_I x2_1), (0, .ref o), (1, zk_I x1), (3, zk_I x3)]) hx hb dX1_thereOf_90 rfl hl (by decide) (fun _ => rfl) hf (fun x2_1 hf ls hl => ?_)
        refine zk_iincN (lv' := fun x3_2 => [(3, zk_I x3_2), (2, zk_I x2_1), (0, .ref o), (1, zk_I x1)]) hx hb dX1_thereOf_91 hl (k := 3) rfl (by decide) (fun _ => rfl) hf (fun x3_2 hf ls hl => ?_)
        refine lv_goto (tgt := 4) hx hb dX1_thereOf_94 (by decide) ?_
        obtain rfl := zk_so hf
        exact ih4 _ _ _ H locs ls hc4 (lv_sub hl [2, 3, 1, 0] rfl) hP hS
      have hJ88 : ∀ (x3 y0 : Int) (H : Heap) (locs : List Loc) (ls : Array Slot), zm_thereOf_j88 N x1 x3 y0 σ = some c4 → lv_has ls 4 [(0, .ref o), (1, zk_I x1), (3, zk_I x3)] → va_P D zk_cl (zm_P o a dA σ) H → va_S (fun _ => False) s.heap H locs → W p l e zw_X1_thereOf_rm s m (zw_X1_thereOf_vs o p1).toArray below meth c H locs 0 0 (MQ below (zk_Q (some (zk_I r)) (fun _ => True) (fun _ => False)) (zw_X1_thereOf_vs o p1).toArray s 0 0 (fun _ => False)) (F0 m 88 ls [zk_I y0]) := by
        intro x3 y0 H locs ls hf hl hP hS
        refine zk_iconst hx hb dX1_thereOf_88 ?_
        exact hJ89 _ _ _ H locs ls hf (lv_sub hl [0, 1, 2] rfl) hP hS
      refine zk_iloadn hx hb dX1_thereOf_4 rfl (lv_at hl 3 rfl) ?_
      refine zk_bipush hx hb dX1_thereOf_5 (by decide) ?_
      refine zk_icmp_ge (tgt := 97) hx hb dX1_thereOf_7 (by decide) hf (fun h => ⟨h, by decide⟩) (fun hf => ?_) (fun hf => ?_)
      · obtain rfl := zk_so hf
        exact hJ97 _ H locs ls hc4 (lv_sub hl [2] rfl) hP hS
      · refine zk_iloadn hx hb dX1_thereOf_10 rfl (lv_at hl 2 rfl) ?_
        refine zk_iloadn hx hb dX1_thereOf_11 rfl (lv_at hl 1 rfl) ?_
        refine zk_bipush hx hb dX1_thereOf_12 (by decide) ?_
        refine zk_icmp_ne (tgt := 34) hx hb dX1_thereOf_14 (by decide) hf (fun h => ⟨h, by decide⟩) (fun hf => ?_) (fun hf => ?_)
        · refine zk_iloadn hx hb dX1_thereOf_34 rfl (lv_at hl 1 rfl) ?_
          refine zk_bipush hx hb dX1_thereOf_35 (by decide) ?_
          refine zk_icmp_ne (tgt := 62) hx hb dX1_thereOf_37 (by decide) hf (fun h => ⟨h, by decide⟩) (fun hf => ?_) (fun hf => ?_)
          · refine zk_iloadn hx hb dX1_thereOf_62 rfl (lv_at hl 3 rfl) ?_
            refine zk_iconst hx hb dX1_thereOf_63 ?_
            refine zk_icmp_ge (tgt := 88) hx hb dX1_thereOf_64 (by decide) hf (fun h => ⟨h, by decide⟩) (fun hf => ?_) (fun hf => ?_)
            · exact hJ88 _ _ H locs ls hf (lv_sub hl [0, 1, 3] rfl) hP hS
            · refine lv_aload_n hx hb dX1_thereOf_67 rfl (lv_at hl 0 rfl) ?_
              refine zm_rget hx hb hts hown hK hP 0 (by decide) q949 rfl dX1_thereOf_68 ?_
              refine zk_sipush hx hb dX1_thereOf_71 (by decide) ?_
              refine zk_iconst hx hb dX1_thereOf_74 ?_
              refine zk_iloadn hx hb dX1_thereOf_75 rfl (lv_at hl 3 rfl) ?_
              refine zk_iadd hx hb dX1_thereOf_76 ?_
              refine zk_imul hx hb dX1_thereOf_77 ?_
              refine zk_iconst hx hb dX1_thereOf_78 ?_
              refine zk_iadd hx hb dX1_thereOf_79 ?_
              refine zk_iald hx hb hK hP 1 0 rfl rfl (N := 3305) ⟨by decide, by decide⟩ hf dX1_thereOf_80 (fun hf => ?_)
              refine zk_if_lt (tgt := 88) hx hb dX1_thereOf_81 (by decide) hf (fun h => h) (fun hf => ?_) (fun hf => ?_)
              · exact hJ88 _ _ H locs ls hf (lv_sub hl [0, 1, 3] rfl) hP hS
              · refine zk_iconst hx hb dX1_thereOf_84 ?_
                refine lv_goto (tgt := 89) hx hb dX1_thereOf_85 (by decide) ?_
                exact hJ89 _ _ _ H locs ls hf (lv_sub hl [0, 1, 3] rfl) hP hS
          · refine zk_iloadn hx hb dX1_thereOf_40 rfl (lv_at hl 3 rfl) ?_
            refine zk_iconst hx hb dX1_thereOf_41 ?_
            refine zk_icmp_ge (tgt := 58) hx hb dX1_thereOf_42 (by decide) hf (fun h => ⟨h, by decide⟩) (fun hf => ?_) (fun hf => ?_)
            · refine zk_iconst hx hb dX1_thereOf_58 ?_
              refine lv_goto (tgt := 89) hx hb dX1_thereOf_59 (by decide) ?_
              exact hJ89 _ _ _ H locs ls hf (lv_sub hl [0, 1, 3] rfl) hP hS
            · refine lv_aload_n hx hb dX1_thereOf_45 rfl (lv_at hl 0 rfl) ?_
              refine zm_rget hx hb hts hown hK hP 5 (by decide) q954 rfl dX1_thereOf_46 ?_
              refine zk_iloadn hx hb dX1_thereOf_49 rfl (lv_at hl 3 rfl) ?_
              refine zk_iald hx hb hK hP 5 0 rfl rfl (N := 4) ⟨by decide, by decide⟩ hf dX1_thereOf_50 (fun hf => ?_)
              refine zk_if_lt (tgt := 58) hx hb dX1_thereOf_51 (by decide) hf (fun h => h) (fun hf => ?_) (fun hf => ?_)
              · refine zk_iconst hx hb dX1_thereOf_58 ?_
                refine lv_goto (tgt := 89) hx hb dX1_thereOf_59 (by decide) ?_
                exact hJ89 _ _ _ H locs ls hf (lv_sub hl [0, 1, 3] rfl) hP hS
              · refine zk_iconst hx hb dX1_thereOf_54 ?_
                refine lv_goto (tgt := 89) hx hb dX1_thereOf_55 (by decide) ?_
                exact hJ89 _ _ _ H locs ls hf (lv_sub hl [0, 1, 3] rfl) hP hS
        · refine lv_aload_n hx hb dX1_thereOf_17 rfl (lv_at hl 0 rfl) ?_
          refine zm_rget hx hb hts hown hK hP 3 (by decide) q952 rfl dX1_thereOf_18 ?_
          refine zk_iloadn hx hb dX1_thereOf_21 rfl (lv_at hl 3 rfl) ?_
          refine zk_iald hx hb hK hP 3 0 rfl rfl (N := 6) ⟨by decide, by decide⟩ hf dX1_thereOf_22 (fun hf => ?_)
          refine zk_if_ge (tgt := 30) hx hb dX1_thereOf_23 (by decide) hf (fun h => h) (fun hf => ?_) (fun hf => ?_)
          · refine zk_iconst hx hb dX1_thereOf_30 ?_
            refine lv_goto (tgt := 89) hx hb dX1_thereOf_31 (by decide) ?_
            exact hJ89 _ _ _ H locs ls hf (lv_sub hl [0, 1, 3] rfl) hP hS
          · refine zk_iconst hx hb dX1_thereOf_26 ?_
            refine lv_goto (tgt := 89) hx hb dX1_thereOf_27 (by decide) ?_
            exact hJ89 _ _ _ H locs ls hf (lv_sub hl [0, 1, 3] rfl) hP hS
  refine zk_iconst hx hb dX1_thereOf_0 ?_
  refine lv_istore_n (lv' := [(2, zk_I 0), (0, .ref o), (1, zk_I p1)]) hx hb dX1_thereOf_1 rfl hl (by decide) rfl (fun ls hl => ?_)
  refine zk_iconst hx hb dX1_thereOf_2 ?_
  refine lv_istore_n (lv' := [(3, zk_I 0), (2, zk_I 0), (0, .ref o), (1, zk_I p1)]) hx hb dX1_thereOf_3 rfl hl (by decide) rfl (fun ls hl => ?_)
  exact hL4 N _ _ _ H locs ls hf (lv_sub hl [2, 3, 1, 0] rfl) hP hS
abbrev zw_X1_countOf_rm : Room := { frames := 5, cells := 0, slots := 0, locals := 124 }
abbrev zw_X1_countOf_vs (o : Nat) (p1 : Int) : List Value := [.ref o, zk_I p1]
set_option maxHeartbeats 4000000 in
set_option maxRecDepth 100000 in
theorem zw_X1_countOf (l : Launch) {D : va_G} {o : Nat} {a : Nat → Nat} {dA : Nat → ClassId} (N : Nat) (p1 : Int) (σ : ZS) (r : Int) (hf : zm_countOf N p1 σ = some r) : zk_MR l yX1_countOf (ws_ yX1_countOf cX1_countOf 3 (Option.some Jvm.ClassFile.FieldType.int)) zw_X1_countOf_rm D zk_cl (zk_ty dA) (zw_X1_countOf_vs o p1) (zm_P o a dA σ) (some (zk_I r)) := by
  refine zk_startW (by decide +kernel) (Nat.le_of_ble_eq_true rfl) (fun p e s m below meth c H locs ls hx hb hr hlk hml hown hts hKX hP hS hl => ?_)
  have hl : lv_has ls 3 [(0, .ref o), (1, zk_I p1)] := hl
  have hK := hKX.1
  have hown : s.vm.findClass RX1 = some m.cls := hown
  have hf : zm_countOf N p1 σ = some r := hf
  refine lv_aload_n hx hb dX1_countOf_0 rfl (lv_at hl 0 rfl) ?_
  refine zk_iconst hx hb dX1_countOf_1 ?_
  refine zk_iconst hx hb dX1_countOf_2 ?_
  obtain ⟨v1, hq, hf⟩ := zk_bs hf
  refine zk_callVR (As := [zk_I 0, zk_I 0]) (rest := []) ⟨hx, hb, hml, hown, hts⟩ (zw_X1_boldest l N 0 0 σ _ hq) (cwV 2 hts (lw_V q1173 q1175 qs60 q88 q1176) rfl rfl rfl (by decide +kernel) ⟨Nat.le_of_ble_eq_true rfl, Nat.le_of_ble_eq_true rfl⟩) hKX hP hS (va_recv hK hP (ci := 1) (q0 := 0) rfl rfl) rfl hl.1 rfl (Nat.le_of_ble_eq_true rfl) dX1_countOf_3 ⟨Nat.le_of_ble_eq_true rfl, Nat.le_of_ble_eq_true rfl⟩ (fun H locs hP hS => ?_)
  refine lv_istore_n (lv' := [(2, zk_I v1), (0, .ref o), (1, zk_I p1)]) hx hb dX1_countOf_6 rfl hl (by decide) rfl (fun ls hl => ?_)
  refine zk_iloadn hx hb dX1_countOf_7 rfl (lv_at hl 2 rfl) ?_
  obtain ⟨hg, hf⟩ := zk_gs hf
  rcases zk_sw hf with ⟨hq0, hf⟩ | ⟨hq0, hf⟩
  · refine zk_tabIn (tgt := 60) hx hb dX1_countOf_8 hq0 (by decide) rfl (by decide) ?_
    refine lv_aload_n hx hb dX1_countOf_60 rfl (lv_at hl 1 rfl) ?_
    refine zm_rget hx hb hts hown hK hP 1 (by decide) q950 rfl dX1_countOf_61 ?_
    exact zk_iret hx hb hr hlk (Option.some.inj hf) (fun _ _ => trivial) hS dX1_countOf_64
  rcases zk_sw hf with ⟨hq1, hf⟩ | ⟨hq1, hf⟩
  · refine zk_tabIn (tgt := 65) hx hb dX1_countOf_8 hq1 (by decide) rfl (by decide) ?_
    refine lv_aload_n hx hb dX1_countOf_65 rfl (lv_at hl 1 rfl) ?_
    refine zm_rget hx hb hts hown hK hP 0 (by decide) q949 rfl dX1_countOf_66 ?_
    refine zk_iconst hx hb dX1_countOf_69 ?_
    refine zk_iald hx hb hK hP 1 0 rfl rfl (N := 3305) ⟨by decide, by decide⟩ hf dX1_countOf_70 (fun hf => ?_)
    exact zk_iret hx hb hr hlk (Option.some.inj hf) (fun _ _ => trivial) hS dX1_countOf_71
  rcases zk_sw hf with ⟨hq2, hf⟩ | ⟨hq2, hf⟩
  · refine zk_tabIn (tgt := 72) hx hb dX1_countOf_8 hq2 (by decide) rfl (by decide) ?_
    refine lv_aload_n hx hb dX1_countOf_72 rfl (lv_at hl 1 rfl) ?_
    refine zm_rget hx hb hts hown hK hP 0 (by decide) q949 rfl dX1_countOf_73 ?_
    refine zk_iconst hx hb dX1_countOf_76 ?_
    refine zk_iald hx hb hK hP 1 0 rfl rfl (N := 3305) ⟨by decide, by decide⟩ hf dX1_countOf_77 (fun hf => ?_)
    exact zk_iret hx hb hr hlk (Option.some.inj hf) (fun _ _ => trivial) hS dX1_countOf_78
  rcases zk_sw hf with ⟨hq3, hf⟩ | ⟨hq3, hf⟩
  · refine zk_tabIn (tgt := 79) hx hb dX1_countOf_8 hq3 (by decide) rfl (by decide) ?_
    refine lv_aload_n hx hb dX1_countOf_79 rfl (lv_at hl 1 rfl) ?_
    refine zm_rget hx hb hts hown hK hP 0 (by decide) q949 rfl dX1_countOf_80 ?_
    refine zk_iconst hx hb dX1_countOf_83 ?_
    refine zk_iald hx hb hK hP 1 0 rfl rfl (N := 3305) ⟨by decide, by decide⟩ hf dX1_countOf_84 (fun hf => ?_)
    exact zk_iret hx hb hr hlk (Option.some.inj hf) (fun _ _ => trivial) hS dX1_countOf_85
  rcases zk_sw hf with ⟨hq4, hf⟩ | ⟨hq4, hf⟩
  · refine zk_tabIn (tgt := 86) hx hb dX1_countOf_8 hq4 (by decide) rfl (by decide) ?_
    refine zk_iloadn hx hb dX1_countOf_86 rfl (lv_at hl 0 rfl) ?_
    refine zk_bipush hx hb dX1_countOf_87 (by decide) ?_
    refine zk_icmp_ne (tgt := 96) hx hb dX1_countOf_89 (by decide) hf (fun h => ⟨h, by decide⟩) (fun hf => ?_) (fun hf => ?_)
    · refine zk_iconst hx hb dX1_countOf_96 ?_
      refine zk_iloadn hx hb dX1_countOf_97 rfl (lv_at hl 0 rfl) ?_
      refine zk_rishl hx hb dX1_countOf_98 hf (fun hf => ?_)
      exact zk_iret hx hb hr hlk (Option.some.inj hf) (fun _ _ => trivial) hS dX1_countOf_99
    · refine zk_iconst hx hb dX1_countOf_92 ?_
      refine lv_goto (tgt := 99) hx hb dX1_countOf_93 (by decide) ?_
      exact zk_iret hx hb hr hlk (Option.some.inj hf) (fun _ _ => trivial) hS dX1_countOf_99
  rcases zk_sw hf with ⟨hq5, hf⟩ | ⟨hq5, hf⟩
  · refine zk_tabIn (tgt := 100) hx hb dX1_countOf_8 hq5 (by decide) rfl (by decide) ?_
    refine lv_aload_n hx hb dX1_countOf_100 rfl (lv_at hl 1 rfl) ?_
    refine zk_iconst hx hb dX1_countOf_101 ?_
    refine lv_aload_n hx hb dX1_countOf_102 rfl (lv_at hl 1 rfl) ?_
    refine zm_rget hx hb hts hown hK hP 1 (by decide) q950 rfl dX1_countOf_103 ?_
    refine zk_rishl hx hb dX1_countOf_106 hf (fun hf => ?_)
    refine zk_iconst hx hb dX1_countOf_107 ?_
    refine zk_isub hx hb dX1_countOf_108 ?_
    obtain ⟨v2, hq, hf⟩ := zk_bs hf
    refine zk_callVR (As := [zk_I ((1 * 2 ^ (σ 1 0 : Int).toNat) - 1)]) (rest := []) ⟨hx, hb, hml, hown, hts⟩ (zw_X1_daringOf l N ((1 * 2 ^ (σ 1 0 : Int).toNat) - 1) σ _ hq) (cwV 1 hts (lw_V q1308 q1310 qs75 q88 q1311) rfl rfl rfl (by decide +kernel) ⟨Nat.le_of_ble_eq_true rfl, Nat.le_of_ble_eq_true rfl⟩) hKX hP hS (va_recv hK hP (ci := 1) (q0 := 0) rfl rfl) rfl hl.1 rfl (Nat.le_of_ble_eq_true rfl) dX1_countOf_109 ⟨Nat.le_of_ble_eq_true rfl, Nat.le_of_ble_eq_true rfl⟩ (fun H locs hP hS => ?_)
    exact zk_iret hx hb hr hlk (Option.some.inj hf) (fun _ _ => trivial) hS dX1_countOf_112
  rcases zk_sw hf with ⟨hq6, hf⟩ | ⟨hq6, hf⟩
  · refine zk_tabIn (tgt := 113) hx hb dX1_countOf_8 hq6 (by decide) rfl (by decide) ?_
    refine lv_aload_n hx hb dX1_countOf_113 rfl (lv_at hl 1 rfl) ?_
    obtain ⟨v3, hq, hf⟩ := zk_bs hf
    refine zk_callVR (As := []) (rest := []) ⟨hx, hb, hml, hown, hts⟩ (zw_X1_crossedByAll l N  σ _ hq) (cwV 0 hts (lw_V q1388 q1390 qs83 q88 q1391) rfl rfl rfl (by decide +kernel) ⟨Nat.le_of_ble_eq_true rfl, Nat.le_of_ble_eq_true rfl⟩) hKX hP hS (va_recv hK hP (ci := 1) (q0 := 0) rfl rfl) rfl hl.1 rfl (Nat.le_of_ble_eq_true rfl) dX1_countOf_114 ⟨Nat.le_of_ble_eq_true rfl, Nat.le_of_ble_eq_true rfl⟩ (fun H locs hP hS => ?_)
    exact zk_iret hx hb hr hlk (Option.some.inj hf) (fun _ _ => trivial) hS dX1_countOf_117
  rcases zk_sw hf with ⟨hq7, hf⟩ | ⟨hq7, hf⟩
  · refine zk_tabIn (tgt := 118) hx hb dX1_countOf_8 hq7 (by decide) rfl (by decide) ?_
    refine lv_aload_n hx hb dX1_countOf_118 rfl (lv_at hl 1 rfl) ?_
    refine zk_iconst hx hb dX1_countOf_119 ?_
    obtain ⟨v4, hq, hf⟩ := zk_bs hf
    refine zk_callVR (As := [zk_I 2]) (rest := []) ⟨hx, hb, hml, hown, hts⟩ (zw_X1_those l N 2 σ _ hq) (cwV 1 hts (lw_V q1392 q1394 qs84 q88 q1395) rfl rfl rfl (by decide +kernel) ⟨Nat.le_of_ble_eq_true rfl, Nat.le_of_ble_eq_true rfl⟩) hKX hP hS (va_recv hK hP (ci := 1) (q0 := 0) rfl rfl) rfl hl.1 rfl (Nat.le_of_ble_eq_true rfl) dX1_countOf_120 ⟨Nat.le_of_ble_eq_true rfl, Nat.le_of_ble_eq_true rfl⟩ (fun H locs hP hS => ?_)
    exact zk_iret hx hb hr hlk (Option.some.inj hf) (fun _ _ => trivial) hS dX1_countOf_123
  rcases zk_sw hf with ⟨hq8, hf⟩ | ⟨hq8, hf⟩
  · refine zk_tabIn (tgt := 124) hx hb dX1_countOf_8 hq8 (by decide) rfl (by decide) ?_
    refine lv_aload_n hx hb dX1_countOf_124 rfl (lv_at hl 1 rfl) ?_
    refine zk_iconst hx hb dX1_countOf_125 ?_
    obtain ⟨v5, hq, hf⟩ := zk_bs hf
    refine zk_callVR (As := [zk_I 3]) (rest := []) ⟨hx, hb, hml, hown, hts⟩ (zw_X1_those l N 3 σ _ hq) (cwV 1 hts (lw_V q1392 q1394 qs84 q88 q1395) rfl rfl rfl (by decide +kernel) ⟨Nat.le_of_ble_eq_true rfl, Nat.le_of_ble_eq_true rfl⟩) hKX hP hS (va_recv hK hP (ci := 1) (q0 := 0) rfl rfl) rfl hl.1 rfl (Nat.le_of_ble_eq_true rfl) dX1_countOf_126 ⟨Nat.le_of_ble_eq_true rfl, Nat.le_of_ble_eq_true rfl⟩ (fun H locs hP hS => ?_)
    exact zk_iret hx hb hr hlk (Option.some.inj hf) (fun _ _ => trivial) hS dX1_countOf_129
  refine zk_tabOut (tgt := 130) hx hb dX1_countOf_8 hg (by omega) (by decide) ?_
  refine lv_aload_n hx hb dX1_countOf_130 rfl (lv_at hl 1 rfl) ?_
  refine zk_iloadn hx hb dX1_countOf_131 rfl (lv_at hl 2 rfl) ?_
  obtain ⟨v6, hq, hf⟩ := zk_bs hf
  refine zk_callVR (As := [zk_I p1]) (rest := []) ⟨hx, hb, hml, hown, hts⟩ (zw_X1_thereOf l N p1 σ _ hq) (cwV 1 hts (lw_V q1396 q1398 qs85 q88 q1399) rfl rfl rfl (by decide +kernel) ⟨Nat.le_of_ble_eq_true rfl, Nat.le_of_ble_eq_true rfl⟩) hKX hP hS (va_recv hK hP (ci := 1) (q0 := 0) rfl rfl) rfl hl.1 rfl (Nat.le_of_ble_eq_true rfl) dX1_countOf_132 ⟨Nat.le_of_ble_eq_true rfl, Nat.le_of_ble_eq_true rfl⟩ (fun H locs hP hS => ?_)
  exact zk_iret hx hb hr hlk (Option.some.inj hf) (fun _ _ => trivial) hS dX1_countOf_135
abbrev zw_X1_count_rm : Room := { frames := 6, cells := 0, slots := 0, locals := 146 }
abbrev zw_X1_count_vs (o : Nat) (p1 : Int) : List Value := [.ref o, zk_I p1]
set_option maxHeartbeats 4000000 in
set_option maxRecDepth 100000 in
theorem zw_X1_count (l : Launch) {D : va_G} {o : Nat} {a : Nat → Nat} {dA : Nat → ClassId} (N : Nat) (p1 : Int) (σ : ZS) (r : Int) (hf : zm_count N p1 σ = some r) : zk_MR l yX1_count (ws_ yX1_count cX1_count 2 (Option.some Jvm.ClassFile.FieldType.int)) zw_X1_count_rm D zk_cl (zk_ty dA) (zw_X1_count_vs o p1) (zm_P o a dA σ) (some (zk_I r)) := by
  refine zk_startW (by decide +kernel) (Nat.le_of_ble_eq_true rfl) (fun p e s m below meth c H locs ls hx hb hr hlk hml hown hts hKX hP hS hl => ?_)
  have hl : lv_has ls 2 [(0, .ref o), (1, zk_I p1)] := hl
  have hK := hKX.1
  have hown : s.vm.findClass RX1 = some m.cls := hown
  have hf : zm_count N p1 σ = some r := hf
  refine zk_iloadn hx hb dX1_count_0 rfl (lv_at hl 1 rfl) ?_
  refine zk_ri2l hx hb dX1_count_1 hf (fun hf => ?_)
  refine zk_lconst (v := 0) hx hb dX1_count_2 rfl ?_
  refine zk_ldc2 hx hb 11 hown (hts _ q1383) rfl dX1_count_3 ?_
  obtain ⟨v1, hq, hf⟩ := zk_bs hf
  refine zk_callSS (As := [zk_L p1, zk_L 0, zk_L 11]) (rest := []) ⟨hx, hb, hml, hown, hts⟩ (zw_X1_in l p1 0 11 _ hq) (va_cwS 3 hts (lw_S q1027 q1028 q88 q1029) rfl rfl rfl (by decide +kernel) ⟨Nat.le_of_ble_eq_true rfl, Nat.le_of_ble_eq_true rfl⟩) hP hS rfl hl.1 rfl (Nat.le_of_ble_eq_true rfl) dX1_count_6 ⟨Nat.le_of_ble_eq_true rfl, Nat.le_of_ble_eq_true rfl⟩ (fun H locs hP hS => ?_)
  refine zk_if_eq (tgt := 20) hx hb dX1_count_9 (by decide) hf (fun h => h) (fun hf => ?_) (fun hf => ?_)
  · refine zk_iconst hx hb dX1_count_20 ?_
    exact zk_iret hx hb hr hlk (Option.some.inj hf) (fun _ _ => trivial) hS dX1_count_21
  · refine lv_aload_n hx hb dX1_count_12 rfl (lv_at hl 0 rfl) ?_
    refine zk_iloadn hx hb dX1_count_13 rfl (lv_at hl 1 rfl) ?_
    obtain ⟨v2, hq, hf⟩ := zk_bs hf
    refine zk_callVR (As := [zk_I p1]) (rest := []) ⟨hx, hb, hml, hown, hts⟩ (zw_X1_countOf l N p1 σ _ hq) (cwV 1 hts (lw_V q1384 q1386 qs82 q88 q1387) rfl rfl rfl (by decide +kernel) ⟨Nat.le_of_ble_eq_true rfl, Nat.le_of_ble_eq_true rfl⟩) hKX hP hS (va_recv hK hP (ci := 1) (q0 := 0) rfl rfl) rfl hl.1 rfl (Nat.le_of_ble_eq_true rfl) dX1_count_14 ⟨Nat.le_of_ble_eq_true rfl, Nat.le_of_ble_eq_true rfl⟩ (fun H locs hP hS => ?_)
    refine lv_goto (tgt := 21) hx hb dX1_count_17 (by decide) ?_
    exact zk_iret hx hb hr hlk (Option.some.inj hf) (fun _ _ => trivial) hS dX1_count_21
abbrev zw_X1_finding_rm : Room := { frames := 1, cells := 0, slots := 0, locals := 32 }
abbrev zw_X1_finding_vs (o : Nat) : List Value := [.ref o]
set_option maxHeartbeats 4000000 in
set_option maxRecDepth 100000 in
theorem zw_X1_finding (l : Launch) {D : va_G} {o : Nat} {a : Nat → Nat} {dA : Nat → ClassId} (σ : ZS) (r : Int) (hf : zm_finding  σ = some r) : zk_MR l yX1_finding (ws_ yX1_finding cX1_finding 1 (Option.some Jvm.ClassFile.FieldType.int)) zw_X1_finding_rm D zk_cl (zk_ty dA) (zw_X1_finding_vs o) (zm_P o a dA σ) (some (zk_I r)) := by
  refine zk_startW (by decide +kernel) (Nat.le_of_ble_eq_true rfl) (fun p e s m below meth c H locs ls hx hb hr hlk hml hown hts hKX hP hS hl => ?_)
  have hl : lv_has ls 1 [(0, .ref o)] := hl
  have hK := hKX.1
  have hown : s.vm.findClass RX1 = some m.cls := hown
  have hf : zm_finding  σ = some r := hf
  refine lv_aload_n hx hb dX1_finding_0 rfl (lv_at hl 0 rfl) ?_
  refine zm_rget hx hb hts hown hK hP 10 (by decide) q959 rfl dX1_finding_1 ?_
  exact zk_iret hx hb hr hlk (Option.some.inj hf) (fun _ _ => trivial) hS dX1_finding_4
abbrev zw_X1_findings_rm : Room := { frames := 2, cells := 0, slots := 0, locals := 57 }
abbrev zw_X1_findings_vs (o : Nat) (p1 : Int) : List Value := [.ref o, zk_I p1]
set_option maxHeartbeats 4000000 in
set_option maxRecDepth 100000 in
theorem zw_X1_findings (l : Launch) {D : va_G} {o : Nat} {a : Nat → Nat} {dA : Nat → ClassId} (p1 : Int) (σ : ZS) (r : Int) (hf : zm_findings p1 σ = some r) : zk_MR l yX1_findings (ws_ yX1_findings cX1_findings 2 (Option.some Jvm.ClassFile.FieldType.int)) zw_X1_findings_rm D zk_cl (zk_ty dA) (zw_X1_findings_vs o p1) (zm_P o a dA σ) (some (zk_I r)) := by
  refine zk_startW (by decide +kernel) (Nat.le_of_ble_eq_true rfl) (fun p e s m below meth c H locs ls hx hb hr hlk hml hown hts hKX hP hS hl => ?_)
  have hl : lv_has ls 2 [(0, .ref o), (1, zk_I p1)] := hl
  have hK := hKX.1
  have hown : s.vm.findClass RX1 = some m.cls := hown
  have hf : zm_findings p1 σ = some r := hf
  refine zk_iloadn hx hb dX1_findings_0 rfl (lv_at hl 1 rfl) ?_
  refine zk_ri2l hx hb dX1_findings_1 hf (fun hf => ?_)
  refine zk_lconst (v := 1) hx hb dX1_findings_2 rfl ?_
  refine zk_ldc2 hx hb 5 hown (hts _ q1026) rfl dX1_findings_3 ?_
  obtain ⟨v1, hq, hf⟩ := zk_bs hf
  refine zk_callSS (As := [zk_L p1, zk_L 1, zk_L 5]) (rest := []) ⟨hx, hb, hml, hown, hts⟩ (zw_X1_in l p1 1 5 _ hq) (va_cwS 3 hts (lw_S q1027 q1028 q88 q1029) rfl rfl rfl (by decide +kernel) ⟨Nat.le_of_ble_eq_true rfl, Nat.le_of_ble_eq_true rfl⟩) hP hS rfl hl.1 rfl (Nat.le_of_ble_eq_true rfl) dX1_findings_6 ⟨Nat.le_of_ble_eq_true rfl, Nat.le_of_ble_eq_true rfl⟩ (fun H locs hP hS => ?_)
  refine zk_if_eq (tgt := 21) hx hb dX1_findings_9 (by decide) hf (fun h => h) (fun hf => ?_) (fun hf => ?_)
  · refine zk_iconst hx hb dX1_findings_21 ?_
    exact zk_iret hx hb hr hlk (Option.some.inj hf) (fun _ _ => trivial) hS dX1_findings_22
  · refine lv_aload_n hx hb dX1_findings_12 rfl (lv_at hl 0 rfl) ?_
    refine zm_rget hx hb hts hown hK hP 11 (by decide) q960 rfl dX1_findings_13 ?_
    refine zk_iloadn hx hb dX1_findings_16 rfl (lv_at hl 1 rfl) ?_
    refine zk_iald hx hb hK hP 7 0 rfl rfl (N := 6) ⟨by decide, by decide⟩ hf dX1_findings_17 (fun hf => ?_)
    refine lv_goto (tgt := 22) hx hb dX1_findings_18 (by decide) ?_
    exact zk_iret hx hb hr hlk (Option.some.inj hf) (fun _ _ => trivial) hS dX1_findings_22
