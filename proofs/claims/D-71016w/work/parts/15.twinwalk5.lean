abbrev zw_X1_digest_rm : Room := { frames := 6, cells := 0, slots := 0, locals := 146 }
abbrev zw_X1_digest_vs (o : Nat) : List Value := [.ref o]
set_option maxHeartbeats 4000000 in
set_option maxRecDepth 100000 in
theorem zw_X1_digest (l : Launch) {D : va_G} {o : Nat} {a : Nat → Nat} {dA : Nat → ClassId} (N : Nat) (σ : ZS) (r : Int) (hf : zm_digest N  σ = some r) : zk_MR l yX1_digest (ws_ yX1_digest cX1_digest 5 (Option.some Jvm.ClassFile.FieldType.long)) zw_X1_digest_rm D zk_cl (zk_ty dA) (zw_X1_digest_vs o) (zm_P o a dA σ) (some (zk_L r)) := by
  refine zk_startW (by decide +kernel) (Nat.le_of_ble_eq_true rfl) (fun p e s m below meth c H locs ls hx hb hr hlk hml hown hts hKX hP hS hl => ?_)
  have hl : lv_has ls 5 [(0, .ref o)] := hl
  have hK := hKX.1
  have hown : s.vm.findClass RX1 = some m.cls := hown
  have hf : zm_digest N  σ = some r := hf
  have hJ238 : ∀ (x1 : Int) (H : Heap) (locs : List Loc) (ls : Array Slot), zm_digest_j238 N x1 σ = some r → lv_has ls 5 [(1, zk_L x1)] → va_P D zk_cl (zm_P o a dA σ) H → va_S (fun _ => False) s.heap H locs → W p l e zw_X1_digest_rm s m (zw_X1_digest_vs o).toArray below meth c H locs 0 0 (MQ below (zk_Q (some (zk_L r)) (fun _ => True) (fun _ => False)) (zw_X1_digest_vs o).toArray s 0 0 (fun _ => False)) (F0 m 238 ls []) := by
    intro x1 H locs ls hf hl hP hS
    refine zk_lloadn hx hb dX1_digest_238 rfl (lv_at hl 0 rfl) ?_
    exact zk_lret hx hb hr hlk (Option.some.inj hf) (fun _ _ => trivial) hS dX1_digest_239
  have hL173 : ∀ (n : Nat) (x1 x3 : Int) (H : Heap) (locs : List Loc) (ls : Array Slot), zk_b (zk_loop (α := Int × Int) (β := Int) n (fun a => zm_digest_b173 N a.1 a.2 σ) (x1, x3)) (fun e => zm_digest_j238 N e σ) = some r → lv_has ls 5 [(0, .ref o), (1, zk_L x1), (3, zk_I x3)] → va_P D zk_cl (zm_P o a dA σ) H → va_S (fun _ => False) s.heap H locs → W p l e zw_X1_digest_rm s m (zw_X1_digest_vs o).toArray below meth c H locs 0 0 (MQ below (zk_Q (some (zk_L r)) (fun _ => True) (fun _ => False)) (zw_X1_digest_vs o).toArray s 0 0 (fun _ => False)) (F0 m 173 ls []) := by
    intro n
    induction n with
    | zero => intro x1 x3 H locs ls hf; exact (zk_l0 hf).elim
    | succ n ih173 =>
      intro x1 x3 H locs ls hf hl hP hS
      obtain ⟨c173, hf, hc173⟩ := zk_ls hf
      have hJ232 : ∀ (x1 x3 : Int) (H : Heap) (locs : List Loc) (ls : Array Slot), zm_digest_j232 N x1 x3 σ = some c173 → lv_has ls 5 [(0, .ref o), (1, zk_L x1), (3, zk_I x3)] → va_P D zk_cl (zm_P o a dA σ) H → va_S (fun _ => False) s.heap H locs → W p l e zw_X1_digest_rm s m (zw_X1_digest_vs o).toArray below meth c H locs 0 0 (MQ below (zk_Q (some (zk_L r)) (fun _ => True) (fun _ => False)) (zw_X1_digest_vs o).toArray s 0 0 (fun _ => False)) (F0 m 232 ls []) := by
        intro x1 x3 H locs ls hf hl hP hS
        refine zk_iincN (lv' := fun x3_16 => [(3, zk_I x3_16), (0, .ref o), (1, zk_L x1)]) hx hb dX1_digest_232 hl (k := 2) rfl (by decide) (fun _ => rfl) hf (fun x3_16 hf ls hl => ?_)
        refine lv_goto (tgt := 173) hx hb dX1_digest_235 (by decide) ?_
        obtain rfl := zk_so hf
        exact ih173 _ _ H locs ls hc173 (lv_sub hl [1, 2, 0] rfl) hP hS
      have hL195 : ∀ (n : Nat) (x1 x3 x4 : Int) (H : Heap) (locs : List Loc) (ls : Array Slot), zk_b (zk_loop (α := Int × Int) (β := Int) n (fun a => zm_digest_b195 N a.1 x3 a.2 σ) (x1, x4)) (fun e => zm_digest_j232 N e x3 σ) = some c173 → lv_has ls 5 [(0, .ref o), (1, zk_L x1), (3, zk_I x3), (4, zk_I x4)] → va_P D zk_cl (zm_P o a dA σ) H → va_S (fun _ => False) s.heap H locs → W p l e zw_X1_digest_rm s m (zw_X1_digest_vs o).toArray below meth c H locs 0 0 (MQ below (zk_Q (some (zk_L r)) (fun _ => True) (fun _ => False)) (zw_X1_digest_vs o).toArray s 0 0 (fun _ => False)) (F0 m 195 ls []) := by
        intro n
        induction n with
        | zero => intro x1 x3 x4 H locs ls hf; exact (zk_l0 hf).elim
        | succ n ih195 =>
          intro x1 x3 x4 H locs ls hf hl hP hS
          obtain ⟨c195, hf, hc195⟩ := zk_ls hf
          refine zk_iload hx hb dX1_digest_195 (lv_at hl 3 rfl) ?_
          refine lv_aload_n hx hb dX1_digest_197 rfl (lv_at hl 0 rfl) ?_
          refine zm_rget hx hb hts hown hK hP 5 (by decide) q954 rfl dX1_digest_198 ?_
          refine zk_iloadn hx hb dX1_digest_201 rfl (lv_at hl 2 rfl) ?_
          refine zk_iald hx hb hK hP 5 0 rfl rfl (N := 4) ⟨by decide, by decide⟩ hf dX1_digest_202 (fun hf => ?_)
          refine zk_icmp_ge (tgt := 232) hx hb dX1_digest_203 (by decide) hf (fun h => h) (fun hf => ?_) (fun hf => ?_)
          · obtain rfl := zk_so hf
            exact hJ232 _ _ H locs ls hc195 (lv_sub hl [0, 1, 2] rfl) hP hS
          · refine zk_ldc2 hx hb 31 hown (hts _ q1413) rfl dX1_digest_206 ?_
            refine zk_lloadn hx hb dX1_digest_209 rfl (lv_at hl 1 rfl) ?_
            refine zk_lmul hx hb dX1_digest_210 ?_
            refine lv_aload_n hx hb dX1_digest_211 rfl (lv_at hl 0 rfl) ?_
            refine zm_rget hx hb hts hown hK hP 6 (by decide) q955 rfl dX1_digest_212 ?_
            refine zk_bipush hx hb dX1_digest_215 (by decide) ?_
            refine zk_iloadn hx hb dX1_digest_217 rfl (lv_at hl 2 rfl) ?_
            refine zk_imul hx hb dX1_digest_218 ?_
            refine zk_iload hx hb dX1_digest_219 (lv_at hl 3 rfl) ?_
            refine zk_iadd hx hb dX1_digest_221 ?_
            refine zk_iald hx hb hK hP 6 0 rfl rfl (N := 240) ⟨by decide, by decide⟩ hf dX1_digest_222 (fun hf => ?_)
            refine zk_ri2l hx hb dX1_digest_223 hf (fun hf => ?_)
            refine zk_ladd hx hb dX1_digest_224 ?_
            refine zk_lstorenN (lv' := fun x1_14 => [(1, zk_L x1_14), (0, .ref o), (3, zk_I x3), (4, zk_I x4)]) hx hb dX1_digest_225 rfl hl (by decide) (fun _ => rfl) hf (fun x1_14 hf ls hl => ?_)
            refine zk_iincN (lv' := fun x4_15 => [(4, zk_I x4_15), (1, zk_L x1_14), (0, .ref o), (3, zk_I x3)]) hx hb dX1_digest_226 hl (k := 3) rfl (by decide) (fun _ => rfl) hf (fun x4_15 hf ls hl => ?_)
            refine lv_goto (tgt := 195) hx hb dX1_digest_229 (by decide) ?_
            obtain rfl := zk_so hf
            exact ih195 _ _ _ H locs ls hc195 (lv_sub hl [2, 1, 3, 0] rfl) hP hS
      refine zk_iloadn hx hb dX1_digest_173 rfl (lv_at hl 2 rfl) ?_
      refine zk_iconst hx hb dX1_digest_174 ?_
      refine zk_icmp_ge (tgt := 238) hx hb dX1_digest_175 (by decide) hf (fun h => ⟨h, by decide⟩) (fun hf => ?_) (fun hf => ?_)
      · obtain rfl := zk_so hf
        exact hJ238 _ H locs ls hc173 (lv_sub hl [1] rfl) hP hS
      · refine zk_ldc2 hx hb 31 hown (hts _ q1413) rfl dX1_digest_178 ?_
        refine zk_lloadn hx hb dX1_digest_181 rfl (lv_at hl 1 rfl) ?_
        refine zk_lmul hx hb dX1_digest_182 ?_
        refine lv_aload_n hx hb dX1_digest_183 rfl (lv_at hl 0 rfl) ?_
        refine zm_rget hx hb hts hown hK hP 5 (by decide) q954 rfl dX1_digest_184 ?_
        refine zk_iloadn hx hb dX1_digest_187 rfl (lv_at hl 2 rfl) ?_
        refine zk_iald hx hb hK hP 5 0 rfl rfl (N := 4) ⟨by decide, by decide⟩ hf dX1_digest_188 (fun hf => ?_)
        refine zk_ri2l hx hb dX1_digest_189 hf (fun hf => ?_)
        refine zk_ladd hx hb dX1_digest_190 ?_
        refine zk_lstorenN (lv' := fun x1_13 => [(1, zk_L x1_13), (0, .ref o), (3, zk_I x3)]) hx hb dX1_digest_191 rfl hl (by decide) (fun _ => rfl) hf (fun x1_13 hf ls hl => ?_)
        refine zk_iconst hx hb dX1_digest_192 ?_
        refine lv_istore (lv' := [(4, zk_I 0), (1, zk_L x1_13), (0, .ref o), (3, zk_I x3)]) hx hb dX1_digest_193 hl (by decide) rfl (fun ls hl => ?_)
        exact hL195 N _ _ _ H locs ls hf (lv_sub hl [2, 1, 3, 0] rfl) hP hS
  have hJ171 : ∀ (x1 : Int) (H : Heap) (locs : List Loc) (ls : Array Slot), zm_digest_j171 N x1 σ = some r → lv_has ls 5 [(0, .ref o), (1, zk_L x1)] → va_P D zk_cl (zm_P o a dA σ) H → va_S (fun _ => False) s.heap H locs → W p l e zw_X1_digest_rm s m (zw_X1_digest_vs o).toArray below meth c H locs 0 0 (MQ below (zk_Q (some (zk_L r)) (fun _ => True) (fun _ => False)) (zw_X1_digest_vs o).toArray s 0 0 (fun _ => False)) (F0 m 171 ls []) := by
    intro x1 H locs ls hf hl hP hS
    refine zk_iconst hx hb dX1_digest_171 ?_
    refine lv_istore_n (lv' := [(3, zk_I 0), (0, .ref o), (1, zk_L x1)]) hx hb dX1_digest_172 rfl hl (by decide) rfl (fun ls hl => ?_)
    exact hL173 N _ _ H locs ls hf (lv_sub hl [1, 2, 0] rfl) hP hS
  have hL105 : ∀ (n : Nat) (x1 x3 : Int) (H : Heap) (locs : List Loc) (ls : Array Slot), zk_b (zk_loop (α := Int × Int) (β := Int) n (fun a => zm_digest_b105 N a.1 a.2 σ) (x1, x3)) (fun e => zm_digest_j171 N e σ) = some r → lv_has ls 5 [(0, .ref o), (1, zk_L x1), (3, zk_I x3)] → va_P D zk_cl (zm_P o a dA σ) H → va_S (fun _ => False) s.heap H locs → W p l e zw_X1_digest_rm s m (zw_X1_digest_vs o).toArray below meth c H locs 0 0 (MQ below (zk_Q (some (zk_L r)) (fun _ => True) (fun _ => False)) (zw_X1_digest_vs o).toArray s 0 0 (fun _ => False)) (F0 m 105 ls []) := by
    intro n
    induction n with
    | zero => intro x1 x3 H locs ls hf; exact (zk_l0 hf).elim
    | succ n ih105 =>
      intro x1 x3 H locs ls hf hl hP hS
      obtain ⟨c105, hf, hc105⟩ := zk_ls hf
      have hJ165 : ∀ (x1 x3 : Int) (H : Heap) (locs : List Loc) (ls : Array Slot), zm_digest_j165 N x1 x3 σ = some c105 → lv_has ls 5 [(0, .ref o), (1, zk_L x1), (3, zk_I x3)] → va_P D zk_cl (zm_P o a dA σ) H → va_S (fun _ => False) s.heap H locs → W p l e zw_X1_digest_rm s m (zw_X1_digest_vs o).toArray below meth c H locs 0 0 (MQ below (zk_Q (some (zk_L r)) (fun _ => True) (fun _ => False)) (zw_X1_digest_vs o).toArray s 0 0 (fun _ => False)) (F0 m 165 ls []) := by
        intro x1 x3 H locs ls hf hl hP hS
        refine zk_iincN (lv' := fun x3_12 => [(3, zk_I x3_12), (0, .ref o), (1, zk_L x1)]) hx hb dX1_digest_165 hl (k := 2) rfl (by decide) (fun _ => rfl) hf (fun x3_12 hf ls hl => ?_)
        refine lv_goto (tgt := 105) hx hb dX1_digest_168 (by decide) ?_
        obtain rfl := zk_so hf
        exact ih105 _ _ H locs ls hc105 (lv_sub hl [1, 2, 0] rfl) hP hS
      have hL128 : ∀ (n : Nat) (x1 x3 x4 : Int) (H : Heap) (locs : List Loc) (ls : Array Slot), zk_b (zk_loop (α := Int × Int) (β := Int) n (fun a => zm_digest_b128 N a.1 x3 a.2 σ) (x1, x4)) (fun e => zm_digest_j165 N e x3 σ) = some c105 → lv_has ls 5 [(0, .ref o), (1, zk_L x1), (3, zk_I x3), (4, zk_I x4)] → va_P D zk_cl (zm_P o a dA σ) H → va_S (fun _ => False) s.heap H locs → W p l e zw_X1_digest_rm s m (zw_X1_digest_vs o).toArray below meth c H locs 0 0 (MQ below (zk_Q (some (zk_L r)) (fun _ => True) (fun _ => False)) (zw_X1_digest_vs o).toArray s 0 0 (fun _ => False)) (F0 m 128 ls []) := by
        intro n
        induction n with
        | zero => intro x1 x3 x4 H locs ls hf; exact (zk_l0 hf).elim
        | succ n ih128 =>
          intro x1 x3 x4 H locs ls hf hl hP hS
          obtain ⟨c128, hf, hc128⟩ := zk_ls hf
          refine zk_iload hx hb dX1_digest_128 (lv_at hl 3 rfl) ?_
          refine lv_aload_n hx hb dX1_digest_130 rfl (lv_at hl 0 rfl) ?_
          refine zm_rget hx hb hts hown hK hP 3 (by decide) q952 rfl dX1_digest_131 ?_
          refine zk_iloadn hx hb dX1_digest_134 rfl (lv_at hl 2 rfl) ?_
          refine zk_iald hx hb hK hP 3 0 rfl rfl (N := 6) ⟨by decide, by decide⟩ hf dX1_digest_135 (fun hf => ?_)
          refine zk_icmp_ge (tgt := 165) hx hb dX1_digest_136 (by decide) hf (fun h => h) (fun hf => ?_) (fun hf => ?_)
          · obtain rfl := zk_so hf
            exact hJ165 _ _ H locs ls hc128 (lv_sub hl [0, 1, 2] rfl) hP hS
          · refine zk_ldc2 hx hb 31 hown (hts _ q1413) rfl dX1_digest_139 ?_
            refine zk_lloadn hx hb dX1_digest_142 rfl (lv_at hl 1 rfl) ?_
            refine zk_lmul hx hb dX1_digest_143 ?_
            refine lv_aload_n hx hb dX1_digest_144 rfl (lv_at hl 0 rfl) ?_
            refine zm_rget hx hb hts hown hK hP 4 (by decide) q953 rfl dX1_digest_145 ?_
            refine zk_bipush hx hb dX1_digest_148 (by decide) ?_
            refine zk_iloadn hx hb dX1_digest_150 rfl (lv_at hl 2 rfl) ?_
            refine zk_imul hx hb dX1_digest_151 ?_
            refine zk_iload hx hb dX1_digest_152 (lv_at hl 3 rfl) ?_
            refine zk_iadd hx hb dX1_digest_154 ?_
            refine zk_iald hx hb hK hP 4 0 rfl rfl (N := 240) ⟨by decide, by decide⟩ hf dX1_digest_155 (fun hf => ?_)
            refine zk_ri2l hx hb dX1_digest_156 hf (fun hf => ?_)
            refine zk_ladd hx hb dX1_digest_157 ?_
            refine zk_lstorenN (lv' := fun x1_10 => [(1, zk_L x1_10), (0, .ref o), (3, zk_I x3), (4, zk_I x4)]) hx hb dX1_digest_158 rfl hl (by decide) (fun _ => rfl) hf (fun x1_10 hf ls hl => ?_)
            refine zk_iincN (lv' := fun x4_11 => [(4, zk_I x4_11), (1, zk_L x1_10), (0, .ref o), (3, zk_I x3)]) hx hb dX1_digest_159 hl (k := 3) rfl (by decide) (fun _ => rfl) hf (fun x4_11 hf ls hl => ?_)
            refine lv_goto (tgt := 128) hx hb dX1_digest_162 (by decide) ?_
            obtain rfl := zk_so hf
            exact ih128 _ _ _ H locs ls hc128 (lv_sub hl [2, 1, 3, 0] rfl) hP hS
      refine zk_iloadn hx hb dX1_digest_105 rfl (lv_at hl 2 rfl) ?_
      refine zk_bipush hx hb dX1_digest_106 (by decide) ?_
      refine zk_icmp_ge (tgt := 171) hx hb dX1_digest_108 (by decide) hf (fun h => ⟨h, by decide⟩) (fun hf => ?_) (fun hf => ?_)
      · obtain rfl := zk_so hf
        exact hJ171 _ H locs ls hc105 (lv_sub hl [0, 1] rfl) hP hS
      · refine zk_ldc2 hx hb 31 hown (hts _ q1413) rfl dX1_digest_111 ?_
        refine zk_lloadn hx hb dX1_digest_114 rfl (lv_at hl 1 rfl) ?_
        refine zk_lmul hx hb dX1_digest_115 ?_
        refine lv_aload_n hx hb dX1_digest_116 rfl (lv_at hl 0 rfl) ?_
        refine zm_rget hx hb hts hown hK hP 3 (by decide) q952 rfl dX1_digest_117 ?_
        refine zk_iloadn hx hb dX1_digest_120 rfl (lv_at hl 2 rfl) ?_
        refine zk_iald hx hb hK hP 3 0 rfl rfl (N := 6) ⟨by decide, by decide⟩ hf dX1_digest_121 (fun hf => ?_)
        refine zk_ri2l hx hb dX1_digest_122 hf (fun hf => ?_)
        refine zk_ladd hx hb dX1_digest_123 ?_
        refine zk_lstorenN (lv' := fun x1_9 => [(1, zk_L x1_9), (0, .ref o), (3, zk_I x3)]) hx hb dX1_digest_124 rfl hl (by decide) (fun _ => rfl) hf (fun x1_9 hf ls hl => ?_)
        refine zk_iconst hx hb dX1_digest_125 ?_
        refine lv_istore (lv' := [(4, zk_I 0), (1, zk_L x1_9), (0, .ref o), (3, zk_I x3)]) hx hb dX1_digest_126 hl (by decide) rfl (fun ls hl => ?_)
        exact hL128 N _ _ _ H locs ls hf (lv_sub hl [2, 1, 3, 0] rfl) hP hS
  have hJ103 : ∀ (x1 : Int) (H : Heap) (locs : List Loc) (ls : Array Slot), zm_digest_j103 N x1 σ = some r → lv_has ls 5 [(0, .ref o), (1, zk_L x1)] → va_P D zk_cl (zm_P o a dA σ) H → va_S (fun _ => False) s.heap H locs → W p l e zw_X1_digest_rm s m (zw_X1_digest_vs o).toArray below meth c H locs 0 0 (MQ below (zk_Q (some (zk_L r)) (fun _ => True) (fun _ => False)) (zw_X1_digest_vs o).toArray s 0 0 (fun _ => False)) (F0 m 103 ls []) := by
    intro x1 H locs ls hf hl hP hS
    refine zk_iconst hx hb dX1_digest_103 ?_
    refine lv_istore_n (lv' := [(3, zk_I 0), (0, .ref o), (1, zk_L x1)]) hx hb dX1_digest_104 rfl hl (by decide) rfl (fun ls hl => ?_)
    exact hL105 N _ _ H locs ls hf (lv_sub hl [1, 2, 0] rfl) hP hS
  have hL72 : ∀ (n : Nat) (x1 x3 : Int) (H : Heap) (locs : List Loc) (ls : Array Slot), zk_b (zk_loop (α := Int × Int) (β := Int) n (fun a => zm_digest_b72 N a.1 a.2 σ) (x1, x3)) (fun e => zm_digest_j103 N e σ) = some r → lv_has ls 5 [(0, .ref o), (1, zk_L x1), (3, zk_I x3)] → va_P D zk_cl (zm_P o a dA σ) H → va_S (fun _ => False) s.heap H locs → W p l e zw_X1_digest_rm s m (zw_X1_digest_vs o).toArray below meth c H locs 0 0 (MQ below (zk_Q (some (zk_L r)) (fun _ => True) (fun _ => False)) (zw_X1_digest_vs o).toArray s 0 0 (fun _ => False)) (F0 m 72 ls []) := by
    intro n
    induction n with
    | zero => intro x1 x3 H locs ls hf; exact (zk_l0 hf).elim
    | succ n ih72 =>
      intro x1 x3 H locs ls hf hl hP hS
      obtain ⟨c72, hf, hc72⟩ := zk_ls hf
      refine zk_iloadn hx hb dX1_digest_72 rfl (lv_at hl 2 rfl) ?_
      refine zk_iconst hx hb dX1_digest_73 ?_
      refine zk_icmp_ge (tgt := 103) hx hb dX1_digest_74 (by decide) hf (fun h => ⟨h, by decide⟩) (fun hf => ?_) (fun hf => ?_)
      · obtain rfl := zk_so hf
        exact hJ103 _ H locs ls hc72 (lv_sub hl [0, 1] rfl) hP hS
      · refine zk_ldc2 hx hb 31 hown (hts _ q1413) rfl dX1_digest_77 ?_
        refine zk_lloadn hx hb dX1_digest_80 rfl (lv_at hl 1 rfl) ?_
        refine zk_lmul hx hb dX1_digest_81 ?_
        refine lv_aload_n hx hb dX1_digest_82 rfl (lv_at hl 0 rfl) ?_
        refine zm_rget hx hb hts hown hK hP 0 (by decide) q949 rfl dX1_digest_83 ?_
        refine zk_sipush hx hb dX1_digest_86 (by decide) ?_
        refine zk_iloadn hx hb dX1_digest_89 rfl (lv_at hl 2 rfl) ?_
        refine zk_imul hx hb dX1_digest_90 ?_
        refine zk_iconst hx hb dX1_digest_91 ?_
        refine zk_iadd hx hb dX1_digest_92 ?_
        refine zk_iald hx hb hK hP 1 0 rfl rfl (N := 3305) ⟨by decide, by decide⟩ hf dX1_digest_93 (fun hf => ?_)
        refine zk_ri2l hx hb dX1_digest_94 hf (fun hf => ?_)
        refine zk_ladd hx hb dX1_digest_95 ?_
        refine zk_lstorenN (lv' := fun x1_7 => [(1, zk_L x1_7), (0, .ref o), (3, zk_I x3)]) hx hb dX1_digest_96 rfl hl (by decide) (fun _ => rfl) hf (fun x1_7 hf ls hl => ?_)
        refine zk_iincN (lv' := fun x3_8 => [(3, zk_I x3_8), (1, zk_L x1_7), (0, .ref o)]) hx hb dX1_digest_97 hl (k := 2) rfl (by decide) (fun _ => rfl) hf (fun x3_8 hf ls hl => ?_)
        refine lv_goto (tgt := 72) hx hb dX1_digest_100 (by decide) ?_
        obtain rfl := zk_so hf
        exact ih72 _ _ H locs ls hc72 (lv_sub hl [2, 1, 0] rfl) hP hS
  have hJ70 : ∀ (x1 : Int) (H : Heap) (locs : List Loc) (ls : Array Slot), zm_digest_j70 N x1 σ = some r → lv_has ls 5 [(0, .ref o), (1, zk_L x1)] → va_P D zk_cl (zm_P o a dA σ) H → va_S (fun _ => False) s.heap H locs → W p l e zw_X1_digest_rm s m (zw_X1_digest_vs o).toArray below meth c H locs 0 0 (MQ below (zk_Q (some (zk_L r)) (fun _ => True) (fun _ => False)) (zw_X1_digest_vs o).toArray s 0 0 (fun _ => False)) (F0 m 70 ls []) := by
    intro x1 H locs ls hf hl hP hS
    refine zk_iconst hx hb dX1_digest_70 ?_
    refine lv_istore_n (lv' := [(3, zk_I 1), (0, .ref o), (1, zk_L x1)]) hx hb dX1_digest_71 rfl hl (by decide) rfl (fun ls hl => ?_)
    exact hL72 N _ _ H locs ls hf (lv_sub hl [1, 2, 0] rfl) hP hS
  have hL33 : ∀ (n : Nat) (x1 x3 : Int) (H : Heap) (locs : List Loc) (ls : Array Slot), zk_b (zk_loop (α := Int × Int) (β := Int) n (fun a => zm_digest_b33 N a.1 a.2 σ) (x1, x3)) (fun e => zm_digest_j70 N e σ) = some r → lv_has ls 5 [(0, .ref o), (1, zk_L x1), (3, zk_I x3)] → va_P D zk_cl (zm_P o a dA σ) H → va_S (fun _ => False) s.heap H locs → W p l e zw_X1_digest_rm s m (zw_X1_digest_vs o).toArray below meth c H locs 0 0 (MQ below (zk_Q (some (zk_L r)) (fun _ => True) (fun _ => False)) (zw_X1_digest_vs o).toArray s 0 0 (fun _ => False)) (F0 m 33 ls []) := by
    intro n
    induction n with
    | zero => intro x1 x3 H locs ls hf; exact (zk_l0 hf).elim
    | succ n ih33 =>
      intro x1 x3 H locs ls hf hl hP hS
      obtain ⟨c33, hf, hc33⟩ := zk_ls hf
      refine zk_iloadn hx hb dX1_digest_33 rfl (lv_at hl 2 rfl) ?_
      refine zk_bipush hx hb dX1_digest_34 (by decide) ?_
      refine lv_aload_n hx hb dX1_digest_36 rfl (lv_at hl 0 rfl) ?_
      refine zm_rget hx hb hts hown hK hP 1 (by decide) q950 rfl dX1_digest_37 ?_
      refine zk_imul hx hb dX1_digest_40 ?_
      refine zk_icmp_ge (tgt := 70) hx hb dX1_digest_41 (by decide) hf (fun h => h) (fun hf => ?_) (fun hf => ?_)
      · obtain rfl := zk_so hf
        exact hJ70 _ H locs ls hc33 (lv_sub hl [0, 1] rfl) hP hS
      · refine zk_ldc2 hx hb 31 hown (hts _ q1413) rfl dX1_digest_44 ?_
        refine zk_lloadn hx hb dX1_digest_47 rfl (lv_at hl 1 rfl) ?_
        refine zk_lmul hx hb dX1_digest_48 ?_
        refine lv_aload_n hx hb dX1_digest_49 rfl (lv_at hl 0 rfl) ?_
        refine zk_iloadn hx hb dX1_digest_50 rfl (lv_at hl 2 rfl) ?_
        refine zk_bipush hx hb dX1_digest_51 (by decide) ?_
        refine zk_ridiv hx hb dX1_digest_53 hf (fun hf => ?_)
        refine zk_iloadn hx hb dX1_digest_54 rfl (lv_at hl 2 rfl) ?_
        refine zk_bipush hx hb dX1_digest_55 (by decide) ?_
        refine zk_rirem hx hb dX1_digest_57 hf (fun hf => ?_)
        obtain ⟨v4, hq, hf⟩ := zk_bs hf
        refine zk_callVR (As := [zk_I (x3 / 6), zk_I (x3 % 6)]) (rest := [zk_L (31 * x1)]) ⟨hx, hb, hml, hown, hts⟩ (zw_X1_toldOf l (x3 / 6) (x3 % 6) σ _ hq) (cwV 2 hts (lw_V q1131 q1133 qs53 q88 q1134) rfl rfl rfl (by decide +kernel) ⟨Nat.le_of_ble_eq_true rfl, Nat.le_of_ble_eq_true rfl⟩) hKX hP hS (va_recv hK hP (ci := 1) (q0 := 0) rfl rfl) rfl hl.1 rfl (Nat.le_of_ble_eq_true rfl) dX1_digest_58 ⟨Nat.le_of_ble_eq_true rfl, Nat.le_of_ble_eq_true rfl⟩ (fun H locs hP hS => ?_)
        refine zk_ri2l hx hb dX1_digest_61 hf (fun hf => ?_)
        refine zk_ladd hx hb dX1_digest_62 ?_
        refine zk_lstorenN (lv' := fun x1_5 => [(1, zk_L x1_5), (0, .ref o), (3, zk_I x3)]) hx hb dX1_digest_63 rfl hl (by decide) (fun _ => rfl) hf (fun x1_5 hf ls hl => ?_)
        refine zk_iincN (lv' := fun x3_6 => [(3, zk_I x3_6), (1, zk_L x1_5), (0, .ref o)]) hx hb dX1_digest_64 hl (k := 2) rfl (by decide) (fun _ => rfl) hf (fun x3_6 hf ls hl => ?_)
        refine lv_goto (tgt := 33) hx hb dX1_digest_67 (by decide) ?_
        obtain rfl := zk_so hf
        exact ih33 _ _ H locs ls hc33 (lv_sub hl [2, 1, 0] rfl) hP hS
  have hJ31 : ∀ (x1 : Int) (H : Heap) (locs : List Loc) (ls : Array Slot), zm_digest_j31 N x1 σ = some r → lv_has ls 5 [(0, .ref o), (1, zk_L x1)] → va_P D zk_cl (zm_P o a dA σ) H → va_S (fun _ => False) s.heap H locs → W p l e zw_X1_digest_rm s m (zw_X1_digest_vs o).toArray below meth c H locs 0 0 (MQ below (zk_Q (some (zk_L r)) (fun _ => True) (fun _ => False)) (zw_X1_digest_vs o).toArray s 0 0 (fun _ => False)) (F0 m 31 ls []) := by
    intro x1 H locs ls hf hl hP hS
    refine zk_iconst hx hb dX1_digest_31 ?_
    refine lv_istore_n (lv' := [(3, zk_I 0), (0, .ref o), (1, zk_L x1)]) hx hb dX1_digest_32 rfl hl (by decide) rfl (fun ls hl => ?_)
    exact hL33 N _ _ H locs ls hf (lv_sub hl [1, 2, 0] rfl) hP hS
  have hL6 : ∀ (n : Nat) (x1 x3 : Int) (H : Heap) (locs : List Loc) (ls : Array Slot), zk_b (zk_loop (α := Int × Int) (β := Int) n (fun a => zm_digest_b6 N a.1 a.2 σ) (x1, x3)) (fun e => zm_digest_j31 N e σ) = some r → lv_has ls 5 [(0, .ref o), (1, zk_L x1), (3, zk_I x3)] → va_P D zk_cl (zm_P o a dA σ) H → va_S (fun _ => False) s.heap H locs → W p l e zw_X1_digest_rm s m (zw_X1_digest_vs o).toArray below meth c H locs 0 0 (MQ below (zk_Q (some (zk_L r)) (fun _ => True) (fun _ => False)) (zw_X1_digest_vs o).toArray s 0 0 (fun _ => False)) (F0 m 6 ls []) := by
    intro n
    induction n with
    | zero => intro x1 x3 H locs ls hf; exact (zk_l0 hf).elim
    | succ n ih6 =>
      intro x1 x3 H locs ls hf hl hP hS
      obtain ⟨c6, hf, hc6⟩ := zk_ls hf
      refine zk_iloadn hx hb dX1_digest_6 rfl (lv_at hl 2 rfl) ?_
      refine zk_bipush hx hb dX1_digest_7 (by decide) ?_
      refine zk_icmp_ge (tgt := 31) hx hb dX1_digest_9 (by decide) hf (fun h => ⟨h, by decide⟩) (fun hf => ?_) (fun hf => ?_)
      · obtain rfl := zk_so hf
        exact hJ31 _ H locs ls hc6 (lv_sub hl [0, 1] rfl) hP hS
      · refine zk_ldc2 hx hb 31 hown (hts _ q1413) rfl dX1_digest_12 ?_
        refine zk_lloadn hx hb dX1_digest_15 rfl (lv_at hl 1 rfl) ?_
        refine zk_lmul hx hb dX1_digest_16 ?_
        refine lv_aload_n hx hb dX1_digest_17 rfl (lv_at hl 0 rfl) ?_
        refine zk_iloadn hx hb dX1_digest_18 rfl (lv_at hl 2 rfl) ?_
        obtain ⟨v1, hq, hf⟩ := zk_bs hf
        refine zk_callVR (As := [zk_I x3]) (rest := [zk_L (31 * x1)]) ⟨hx, hb, hml, hown, hts⟩ (zw_X1_countOf l N x3 σ _ hq) (cwV 1 hts (lw_V q1384 q1386 qs82 q88 q1387) rfl rfl rfl (by decide +kernel) ⟨Nat.le_of_ble_eq_true rfl, Nat.le_of_ble_eq_true rfl⟩) hKX hP hS (va_recv hK hP (ci := 1) (q0 := 0) rfl rfl) rfl hl.1 rfl (Nat.le_of_ble_eq_true rfl) dX1_digest_19 ⟨Nat.le_of_ble_eq_true rfl, Nat.le_of_ble_eq_true rfl⟩ (fun H locs hP hS => ?_)
        refine zk_ri2l hx hb dX1_digest_22 hf (fun hf => ?_)
        refine zk_ladd hx hb dX1_digest_23 ?_
        refine zk_lstorenN (lv' := fun x1_2 => [(1, zk_L x1_2), (0, .ref o), (3, zk_I x3)]) hx hb dX1_digest_24 rfl hl (by decide) (fun _ => rfl) hf (fun x1_2 hf ls hl => ?_)
        refine zk_iincN (lv' := fun x3_3 => [(3, zk_I x3_3), (1, zk_L x1_2), (0, .ref o)]) hx hb dX1_digest_25 hl (k := 2) rfl (by decide) (fun _ => rfl) hf (fun x3_3 hf ls hl => ?_)
        refine lv_goto (tgt := 6) hx hb dX1_digest_28 (by decide) ?_
        obtain rfl := zk_so hf
        exact ih6 _ _ H locs ls hc6 (lv_sub hl [2, 1, 0] rfl) hP hS
  refine zk_ldc2 hx hb 17 hown (hts _ q1412) rfl dX1_digest_0 ?_
  refine lv_lstore_n (lv' := [(1, zk_L 17), (0, .ref o)]) hx hb dX1_digest_3 rfl hl (by decide) rfl (fun ls hl => ?_)
  refine zk_iconst hx hb dX1_digest_4 ?_
  refine lv_istore_n (lv' := [(3, zk_I 0), (1, zk_L 17), (0, .ref o)]) hx hb dX1_digest_5 rfl hl (by decide) rfl (fun ls hl => ?_)
  exact hL6 N _ _ H locs ls hf (lv_sub hl [2, 1, 0] rfl) hP hS
