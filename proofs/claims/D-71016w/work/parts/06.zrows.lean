/-! the tables' words that don't ride in the lists: carried along -/
abbrev zk_Y (C n d : String) : MethodName := ⟨C, n, d⟩
def zk_cn : List String := ["DareFord$Person", "DareFord$Drunk", "DareFord$Fearful", "DareFord$Bred", "DareFord$Bet", "DareFord$Quiet"]
abbrev zk_ydn : MethodName := ⟨"DareFord$Daring", "dares", "(III)I"⟩
abbrev zk_yfn : MethodName := ⟨"DareFord$Daring", "fades", "()I"⟩
def zk_fws : List (String × MethodName × MethodName) := [("DareFord$Person", zk_ydn, ⟨"DareFord$Person", "dares", "(III)I"⟩), ("DareFord$Drunk", zk_ydn, ⟨"DareFord$Drunk", "dares", "(III)I"⟩), ("DareFord$Fearful", zk_ydn, ⟨"DareFord$Fearful", "dares", "(III)I"⟩), ("DareFord$Bred", zk_ydn, ⟨"DareFord$Person", "dares", "(III)I"⟩), ("DareFord$Bet", zk_ydn, ⟨"DareFord$Bet", "dares", "(III)I"⟩), ("DareFord$Quiet", zk_ydn, ⟨"DareFord$Quiet", "dares", "(III)I"⟩),
  ("DareFord$Person", zk_yfn, ⟨"DareFord$Daring", "fades", "()I"⟩), ("DareFord$Drunk", zk_yfn, ⟨"DareFord$Daring", "fades", "()I"⟩), ("DareFord$Fearful", zk_yfn, ⟨"DareFord$Fearful", "fades", "()I"⟩), ("DareFord$Bred", zk_yfn, ⟨"DareFord$Bred", "fades", "()I"⟩), ("DareFord$Bet", zk_yfn, ⟨"DareFord$Bred", "fades", "()I"⟩), ("DareFord$Quiet", zk_yfn, ⟨"DareFord$Fearful", "fades", "()I"⟩)]
def zk_cas : List (String × String) := [("DareFord$Drunk", "DareFord$Person"), ("DareFord$Fearful", "DareFord$Person"), ("DareFord$Bred", "DareFord$Person"), ("DareFord$Bet", "DareFord$Person"), ("DareFord$Quiet", "DareFord$Person"), ("DareFord$Bet", "DareFord$Bred"), ("DareFord$Quiet", "DareFord$Fearful")]
def zk_fln : List (String × Nat × String × String) := [("DareFord$Drunk", 23, "at", "[I"), ("DareFord$Fearful", 26, "at", "[I"), ("DareFord$Bred", 19, "personMany", "I"), ("DareFord$Bred", 23, "at", "[I"), ("DareFord$Quiet", 32, "at", "[I")]
def zk_mln : List (String × Nat) := [("DareFord$Drunk", 31), ("DareFord$Bet", 36), ("DareFord$Quiet", 40)]
def zk_nca : List (String × String) := [("DareFord$Person", "DareFord$Drunk"), ("DareFord$Person", "DareFord$Fearful"), ("DareFord$Person", "DareFord$Bred"), ("DareFord$Person", "DareFord$Bet"), ("DareFord$Person", "DareFord$Quiet"), ("DareFord$Drunk", "DareFord$Fearful"), ("DareFord$Drunk", "DareFord$Bred"), ("DareFord$Drunk", "DareFord$Bet"), ("DareFord$Drunk", "DareFord$Quiet"), ("DareFord$Fearful", "DareFord$Drunk"), ("DareFord$Fearful", "DareFord$Bred"), ("DareFord$Fearful", "DareFord$Bet"), ("DareFord$Fearful", "DareFord$Quiet"), ("DareFord$Bred", "DareFord$Drunk"), ("DareFord$Bred", "DareFord$Fearful"), ("DareFord$Bred", "DareFord$Bet"), ("DareFord$Bred", "DareFord$Quiet"), ("DareFord$Bet", "DareFord$Drunk"), ("DareFord$Bet", "DareFord$Fearful"), ("DareFord$Bet", "DareFord$Quiet"), ("DareFord$Quiet", "DareFord$Drunk"), ("DareFord$Quiet", "DareFord$Bred"), ("DareFord$Quiet", "DareFord$Bet"), ("java/lang/ArrayIndexOutOfBoundsException", "java/lang/NullPointerException")]
def zk_lid : List (String × MethodName) := [("DareFord$Drunk", zk_yfn), ("DareFord$Person", zk_yfn), ("DareFord$Person", ⟨"DareFord$Person", "fades", "()I"⟩)]
def zk_X (U : State) : Prop := (∀ q ∈ zk_fws, va_Fw q.1 q.2.1 q.2.2 U) ∧ (∀ q ∈ zk_cas, va_Nw (.castable q.1 q.2) U) ∧ (∀ q ∈ zk_fln, va_Nw (.fieldLinkNest q.1 q.2.1 "DareFord" q.2.2.1 q.2.2.2 "DareFord") U) ∧ (∀ q ∈ zk_mln, va_Nw (.methodLinkNest q.1 q.2 ⟨"DareFord", "farOn", "(II)I"⟩ "DareFord") U) ∧ (∀ q ∈ zk_nca, va_Nc q.1 q.2 U) ∧ (∀ q ∈ zk_lid, va_Nw (.landsInDefault q.1 q.2 zk_yfn) U) ∧ va_Nw (.methodLink "DareFord$Fearful" 23 ⟨"DareFord$Person", "fades", "()I"⟩) U ∧ va_Nw (.sameMethod "DareFord$Person" "DareFord$Daring" "fades" "()I") U
theorem zk_fwn : ∀ q ∈ zk_fws, q.2.1.cls ≠ "java/lang/invoke/MethodHandle" ∧ q.2.1.cls ≠ "java/lang/invoke/VarHandle" := by decide +kernel
theorem zk_lidS {u U : State} (e : u.vm = U.vm) {C : String} {x y : MethodName} (h : va_Nw (.landsInDefault C x y) u) : va_Nw (.landsInDefault C x y) U := by
  have h1 : (Cond.landsInDefault C x y).before #[] (u.setVm U.vm) = true := by
    rw [← e]
    exact h
  exact h1
theorem zk_Xwarm {s U : State} (hW : s.WarmedH U.vm) (h : zk_X s) : zk_X U := by
  obtain ⟨h1, h2, h3, h4, h5, h6, h7, h8⟩ := h
  refine ⟨fun q hq => (h1 q hq).moved (zk_fwn q hq) hW.alike, fun q hq => ?_, fun q hq => va_Nw.warmF hW (h3 q hq), fun q hq => va_Nw.warmM hW (h4 q hq), fun q hq => (h5 q hq).moved hW.alike, fun q hq => ?_, word_at hW (Or.inl rfl) h7, word_at hW (Or.inl rfl) h8⟩
  rotate_left
  · have e := h6 q hq
    have e1 : (Cond.landsInDefault q.1 q.2 zk_yfn).before #[] (s.setVm U.vm) = true := (Cond.landsInDefault_setVm (args := #[]) (args' := #[]) hW.alike (State.methodFound?_setVm hW.alike _ _ _)).trans e
    exact e1
  have e := h2 q hq
  have e1 : (Cond.castable q.1 q.2).before #[] (s.setVm U.vm) = true := by rw [Cond.castable_setVm hW.alike]; exact e
  exact va_tabs rfl (rfl : (s.setVm U.vm).vm = U.vm) e1
theorem zk_Xsame {u U : State} (e : u.vm = U.vm) (h : zk_X u) : zk_X U := by
  obtain ⟨h1, h2, h3, h4, h5, h6, h7, h8⟩ := h
  refine ⟨fun q hq => ?_, fun q hq => (h2 q hq).same rfl e, fun q hq => (h3 q hq).same rfl e, fun q hq => (h4 q hq).same rfl e, fun q hq => (h5 q hq).moved (by rw [e]; exact Vm.Alike.refl _), fun q hq => zk_lidS e (h6 q hq), h7.same rfl e, h8.same rfl e⟩
  obtain ⟨a1, a2, a3, a4, a5⟩ := h1 q hq
  exact ⟨va_tabs rfl e a1, va_tabs rfl e a2, va_tabs rfl e a3, va_tabs rfl e a4, va_tabs rfl e a5⟩
/-- what the tables say, wherever the run is -/
def zk_KX (D : va_G) (cl : List vw_C) (tys : List (ClassId × FieldType)) (U : State) : Prop := va_K D cl tys U ∧ zk_X U
/-! Z: the machine's rows over integers -/
abbrev zk_I (x : Int) : Value := .int (Int32.ofInt x)
abbrev zk_L (x : Int) : Value := .long (Int64.ofInt x)
def zk_f (g : Int → Int) : Nat → Int32 := fun i => Int32.ofInt (g i)
theorem zk_lt {a b : Int} (ha : zk_R a) (hb : zk_R b) : Int32.ofInt a < Int32.ofInt b ↔ a < b := by
  rw [Int32.lt_iff_toInt_lt, Int32.toInt_ofInt_of_le (by omega) (by omega), Int32.toInt_ofInt_of_le (by omega) (by omega)]
theorem zk_le {a b : Int} (ha : zk_R a) (hb : zk_R b) : Int32.ofInt a ≤ Int32.ofInt b ↔ a ≤ b := by
  rw [Int32.le_iff_toInt_le, Int32.toInt_ofInt_of_le (by omega) (by omega), Int32.toInt_ofInt_of_le (by omega) (by omega)]
theorem zk_eq {a b : Int} (ha : zk_R a) (hb : zk_R b) : Int32.ofInt a = Int32.ofInt b ↔ a = b := by
  rw [← Int32.toInt_inj, Int32.toInt_ofInt_of_le (by omega) (by omega), Int32.toInt_ofInt_of_le (by omega) (by omega)]
theorem zk_llt {a b : Int} (ha : zk_Q64 a) (hb : zk_Q64 b) : Int64.ofInt a < Int64.ofInt b ↔ a < b := by
  rw [Int64.lt_iff_toInt_lt, Int64.toInt_ofInt_of_le (by omega) (by omega), Int64.toInt_ofInt_of_le (by omega) (by omega)]
theorem zk_leq {a b : Int} (ha : zk_Q64 a) (hb : zk_Q64 b) : Int64.ofInt a = Int64.ofInt b ↔ a = b := by
  rw [← Int64.toInt_inj, Int64.toInt_ofInt_of_le (by omega) (by omega), Int64.toInt_ofInt_of_le (by omega) (by omega)]
theorem zk_nz {a : Int} (ha : zk_R a) (h : a ≠ 0) : ¬ Int32.ofInt a = 0 := fun q => h ((zk_eq ha (by decide)).mp q)
theorem zk_lnz {a : Int} (ha : zk_Q64 a) (h : a ≠ 0) : ¬ Int64.ofInt a = 0 := fun q => h ((zk_leq ha (by decide)).mp q)
theorem zk_div {a b : Int} (h : (0 ≤ a ∧ a ≤ 2147483647) ∧ (0 < b ∧ b ≤ 2147483647)) : Int32.ofInt a / Int32.ofInt b = Int32.ofInt (a / b) := by
  obtain ⟨⟨h1, h2⟩, h3, h4⟩ := h
  have e := Int32.ofInt_tdiv (a := a) (b := b) (by show (-2147483648 : Int) ≤ a; omega) (by show a ≤ (2147483647 : Int); omega) (by show (-2147483648 : Int) ≤ b; omega) (by show b ≤ (2147483647 : Int); omega)
  rw [← e, Int.tdiv_eq_ediv_of_nonneg h1]
theorem zk_rem {a b : Int} (h : (0 ≤ a ∧ a ≤ 2147483647) ∧ (0 < b ∧ b ≤ 2147483647)) : Int32.ofInt a - Int32.ofInt a / Int32.ofInt b * Int32.ofInt b = Int32.ofInt (a % b) := by
  rw [zk_div h, ← Int32.ofInt_mul, ← Int32.ofInt_sub, Int.emod_def, Int.mul_comm]
theorem zk_ltdiv {a b : Int} (h : zk_Q64 a ∧ (0 < b ∧ b ≤ 9223372036854775807)) : Int64.ofInt a / Int64.ofInt b = Int64.ofInt (Int.tdiv a b) := by
  obtain ⟨⟨h1, h2⟩, h3, h4⟩ := h
  exact (Int64.ofInt_tdiv (a := a) (b := b) (by show (-9223372036854775808 : Int) ≤ a; omega) (by show a ≤ (9223372036854775807 : Int); omega) (by show (-9223372036854775808 : Int) ≤ b; omega) (by show b ≤ (9223372036854775807 : Int); omega)).symm
theorem zk_ldiv {a b : Int} (h : (0 ≤ a ∧ a ≤ 9223372036854775807) ∧ (0 < b ∧ b ≤ 9223372036854775807)) : Int64.ofInt a / Int64.ofInt b = Int64.ofInt (a / b) := by
  rw [zk_ltdiv ⟨by unfold zk_Q64; omega, h.2⟩, Int.tdiv_eq_ediv_of_nonneg h.1.1]
theorem zk_lrem {a b : Int} (h : (0 ≤ a ∧ a ≤ 9223372036854775807) ∧ (0 < b ∧ b ≤ 9223372036854775807)) : Int64.ofInt a - Int64.ofInt a / Int64.ofInt b * Int64.ofInt b = Int64.ofInt (a % b) := by
  rw [zk_ldiv h, ← Int64.ofInt_mul, ← Int64.ofInt_sub, Int.emod_def, Int.mul_comm]
theorem zk_i2l {a : Int} (h : zk_R a) : (Int32.ofInt a).toInt64 = Int64.ofInt a := by
  rw [← Int64.toInt_inj, Int32.toInt_toInt64, Int32.toInt_ofInt_of_le (by omega) (by omega), Int64.toInt_ofInt_of_le (by omega) (by omega)]
theorem zk_l2i (a : Int) : (Int64.ofInt a).toInt32 = Int32.ofInt a := by
  rw [← Int32.toInt_inj]
  simp [Int64.toInt_toInt32]
theorem zk_i2b (a : Int) : (Int32.ofInt a).toInt8.toInt32 = Int32.ofInt (zk_byte a) := by
  exact (Int32.ofInt_int8ToInt _).symm
theorem zk_andE (a b : Int) : Int32.ofInt a &&& Int32.ofInt b = Int32.ofInt (zk_and a b) := (Int32.ofInt_toInt _).symm
theorem zk_orE (a b : Int) : Int32.ofInt a ||| Int32.ofInt b = Int32.ofInt (zk_or a b) := (Int32.ofInt_toInt _).symm
theorem zk_xorE (a b : Int) : Int32.ofInt a ^^^ Int32.ofInt b = Int32.ofInt (zk_xor a b) := (Int32.ofInt_toInt _).symm
theorem zk_cln {a : Int} (h : 0 ≤ a ∧ a ≤ 2147483647) : (Int32.ofInt a).toNatClampNeg = a.toNat := Int32.toNatClampNeg_ofInt_of_le (by omega) (by omega)
theorem zk_nneg {a : Int} (h : 0 ≤ a ∧ a ≤ 2147483647) : ¬ Int32.ofInt a < 0 := fun q => by
  have := (zk_lt (a := a) (b := 0) (by unfold zk_R; omega) (by decide)).mp q
  omega
theorem zk_in {a : Int} {n : Nat} (h : 0 ≤ a ∧ a < (n : Int)) (hn : a ≤ 2147483647) : vp_in (Int32.ofInt a) n := by
  rintro (q | q)
  · have := (zk_lt (a := a) (b := 0) (by unfold zk_R; omega) (by decide)).mp q
    omega
  · rw [zk_cln (by omega)] at q
    omega
theorem zk_sh : ∀ k : Nat, k < 32 → ((Int32.ofInt (k : Int) &&& 31).toBitVec.smod 32).toNat = k := by decide +kernel
theorem zk_toNat {k : Int} (h : 0 ≤ k) : ((k.toNat : Nat) : Int) = k := Int.toNat_of_nonneg h
theorem zk_shl {a k : Int} (h : 0 ≤ k ∧ k < 31) : Int32.ofInt a <<< (Int32.ofInt k &&& 31) = Int32.ofInt (a * 2 ^ k.toNat) := by
  obtain ⟨j, rfl⟩ : ∃ j : Nat, k = (j : Int) := ⟨k.toNat, (zk_toNat h.1).symm⟩
  have hj := zk_sh j (by omega)
  apply Int32.toBitVec_inj.mp
  rw [Int32.toBitVec_shiftLeft]
  simp only [Int.toNat_natCast]
  show (Int32.ofInt a).toBitVec <<< ((Int32.ofInt (j : Int) &&& 31).toBitVec.smod 32) = _
  rw [BitVec.shiftLeft_eq', hj]
  apply BitVec.eq_of_toInt_eq
  rw [BitVec.toInt_shiftLeft]
  simp only [Int32.toBitVec_ofInt, BitVec.toNat_ofInt, BitVec.toInt_ofInt]
  rw [Nat.shiftLeft_eq, Int.natCast_mul, Int.toNat_of_nonneg (Int.emod_nonneg _ (by decide))]
  rw [show ((2 : Int) ^ j) = ((2 ^ j : Nat) : Int) by simp]
  exact Int.emod_mul_bmod _ _
theorem zk_shr {a k : Int} (h : zk_R a ∧ (0 ≤ k ∧ k < 32)) : Int32.ofInt a >>> (Int32.ofInt k &&& 31) = Int32.ofInt (a / 2 ^ k.toNat) := by
  obtain ⟨ha, h⟩ := h
  obtain ⟨j, rfl⟩ : ∃ j : Nat, k = (j : Int) := ⟨k.toNat, (zk_toNat h.1).symm⟩
  have hj := zk_sh j (by omega)
  have e := pk_shr (Int32.ofInt a) (Int32.ofInt (j : Int) &&& 31) j hj
  simp only [Int.toNat_natCast]
  rw [← Int32.toInt_inj, e, Int32.toInt_ofInt_of_le (by omega) (by omega), Int.shiftRight_eq_div_pow]
  have h1 : a / ((2 ^ j : Nat) : Int) ≤ 2147483647 := by
    rcases Int.le_total 0 a with q | q
    · exact Int.le_trans (Int.ediv_le_self _ q) ha.2
    · exact Int.le_trans (Int.ediv_le_ediv (c := ((2 ^ j : Nat) : Int)) (by have := Nat.two_pow_pos j; omega) q) (by simp)
  have h2 : -2147483648 ≤ a / ((2 ^ j : Nat) : Int) := by
    have hp : (0 : Int) < ((2 ^ j : Nat) : Int) := by have := Nat.two_pow_pos j; omega
    rw [Int.le_ediv_iff_mul_le hp]
    have h3 : (1 : Int) ≤ ((2 ^ j : Nat) : Int) := hp
    generalize ((2 ^ j : Nat) : Int) = P at h3 ⊢
    have h4 := ha.1
    omega
  rw [show ((2 ^ j : Nat) : Int) = (2 : Int) ^ j by simp] at h1 h2 ⊢
  rw [Int32.toInt_ofInt_of_le (by omega) (by omega)]
theorem zk_mxE {a b : Int} (h : zk_R a ∧ zk_R b) : (if Int32.ofInt a < Int32.ofInt b then Int32.ofInt b else Int32.ofInt a) = Int32.ofInt (max a b) := by
  by_cases q : a < b
  · rw [if_pos ((zk_lt h.1 h.2).mpr q), Int.max_eq_right (by omega)]
  · rw [if_neg (fun z => q ((zk_lt h.1 h.2).mp z)), Int.max_eq_left (by omega)]
theorem zk_mnE {a b : Int} (h : zk_R a ∧ zk_R b) : (if Int32.ofInt b < Int32.ofInt a then Int32.ofInt b else Int32.ofInt a) = Int32.ofInt (min a b) := by
  by_cases q : b < a
  · rw [if_pos ((zk_lt h.2 h.1).mpr q), Int.min_eq_right (by omega)]
  · rw [if_neg (fun z => q ((zk_lt h.2 h.1).mp z)), Int.min_eq_left (by omega)]
theorem zk_absE {a : Int} (h : zk_R a) : (if 0 ≤ Int32.ofInt a then Int32.ofInt a else 0 - Int32.ofInt a) = Int32.ofInt (if a < 0 then -a else a) := by
  have hle : (0 : Int32) ≤ Int32.ofInt a ↔ 0 ≤ a := zk_le (a := 0) (b := a) (by decide) h
  by_cases q : a < 0
  · rw [if_neg (fun z => by have := hle.mp z; omega), if_pos q, Int32.ofInt_neg]
    simp
  · rw [if_pos (hle.mpr (by omega)), if_neg q]
theorem zk_lmnE {a b : Int} (h : zk_Q64 a ∧ zk_Q64 b) : (if Int64.ofInt b < Int64.ofInt a then Int64.ofInt b else Int64.ofInt a) = Int64.ofInt (min a b) := by
  by_cases q : b < a
  · rw [if_pos ((zk_llt h.2 h.1).mpr q), Int.min_eq_right (by omega)]
  · rw [if_neg (fun z => q ((zk_llt h.2 h.1).mp z)), Int.min_eq_left (by omega)]
theorem zk_cmp {a b : Int} (h : zk_Q64 a ∧ zk_Q64 b) : lg_cmp (Int64.ofInt a) (Int64.ofInt b) = Int32.ofInt (if a < b then -1 else if a = b then 0 else 1) := by
  unfold lg_cmp
  by_cases q : a < b
  · rw [if_neg (fun z => by have := (zk_llt h.2 h.1).mp z; omega), if_neg (fun z => by have := (zk_leq h.1 h.2).mp z; omega), if_pos q]; rfl
  · by_cases q2 : a = b
    · rw [if_neg (fun z => by have := (zk_llt h.2 h.1).mp z; omega), if_pos ((zk_leq h.1 h.2).mpr q2), if_neg q, if_pos q2]; rfl
    · rw [if_pos ((zk_llt h.2 h.1).mpr (by omega)), if_neg q, if_neg q2]; rfl
section ZROWS
variable {p : Program} {l : Launch} {e : Env} {R : Room} {s : State} {m : MethodId} {args : Array Value} {below : List Frame} {meth : Method} {c : Code} {H : Heap} {locs : List Loc} {cells slots : Nat} {Q : State → Prop}
variable {cc : ByteArray} {pc : Nat} {ls : Array Slot} {rest : List Value}
theorem zk_iconst (hexec : p.tables.exec = Jvm.exec) (hb : c.code = cc) {n : Int} (hdg : decode cc pc = .ok (.iconst n, 1)) (k : W p l e R s m args below meth c H locs cells slots Q (F0 m (pc + 1) ls (zk_I n :: rest))) : W p l e R s m args below meth c H locs cells slots Q (F0 m (pc) ls (rest)) := lv_iconst hexec hb hdg rfl k
theorem zk_bipush (hexec : p.tables.exec = Jvm.exec) (hb : c.code = cc) {n : Int} (hdg : decode cc pc = .ok (.bipush n, 2)) (hv : (Int8.ofInt n).toInt32 = Int32.ofInt n) (k : W p l e R s m args below meth c H locs cells slots Q (F0 m (pc + 2) ls (zk_I n :: rest))) : W p l e R s m args below meth c H locs cells slots Q (F0 m (pc) ls (rest)) := lv_bipush hexec hb hdg hv k
theorem zk_sipush (hexec : p.tables.exec = Jvm.exec) (hb : c.code = cc) {n : Int} (hdg : decode cc pc = .ok (.sipush n, 3)) (hv : (Int16.ofInt n).toInt32 = Int32.ofInt n) (k : W p l e R s m args below meth c H locs cells slots Q (F0 m (pc + 3) ls (zk_I n :: rest))) : W p l e R s m args below meth c H locs cells slots Q (F0 m (pc) ls (rest)) := lv_sipush hexec hb hdg hv k
theorem zk_lconst (hexec : p.tables.exec = Jvm.exec) (hb : c.code = cc) {n : Fin 2} {v : Int} (hdg : decode cc pc = .ok (.lconst n, 1)) (hv : Int64.ofNat (n : Nat) = Int64.ofInt v) (k : W p l e R s m args below meth c H locs cells slots Q (F0 m (pc + 1) ls (zk_L v :: rest))) : W p l e R s m args below meth c H locs cells slots Q (F0 m (pc) ls (rest)) := lv_lconst hexec hb hdg hv k
theorem zk_iloadn (hexec : p.tables.exec = Jvm.exec) (hb : c.code = cc) {i : Fin 4} {n : Nat} {x : Int} (hdg : decode cc pc = .ok (.iload_n i, 1)) (hi : (i : Nat) = n) (hl : ls[n]? = some (.val (zk_I x))) (k : W p l e R s m args below meth c H locs cells slots Q (F0 m (pc + 1) ls (zk_I x :: rest))) : W p l e R s m args below meth c H locs cells slots Q (F0 m (pc) ls (rest)) := lv_iload_n hexec hb hdg hi hl k
theorem zk_iload (hexec : p.tables.exec = Jvm.exec) (hb : c.code = cc) {i : Nat} {x : Int} (hdg : decode cc pc = .ok (.iload i, 2)) (hl : ls[i]? = some (.val (zk_I x))) (k : W p l e R s m args below meth c H locs cells slots Q (F0 m (pc + 2) ls (zk_I x :: rest))) : W p l e R s m args below meth c H locs cells slots Q (F0 m (pc) ls (rest)) := lv_iload hexec hb hdg hl k
theorem zk_lloadn (hexec : p.tables.exec = Jvm.exec) (hb : c.code = cc) {i : Fin 4} {n : Nat} {x : Int} (hdg : decode cc pc = .ok (.lload_n i, 1)) (hi : (i : Nat) = n) (hl : ls[n]? = some (.val (zk_L x))) (k : W p l e R s m args below meth c H locs cells slots Q (F0 m (pc + 1) ls (zk_L x :: rest))) : W p l e R s m args below meth c H locs cells slots Q (F0 m (pc) ls (rest)) := lv_lload_n hexec hb hdg hi hl k
theorem zk_lload (hexec : p.tables.exec = Jvm.exec) (hb : c.code = cc) {i : Nat} {x : Int} (hdg : decode cc pc = .ok (.lload i, 2)) (hl : ls[i]? = some (.val (zk_L x))) (k : W p l e R s m args below meth c H locs cells slots Q (F0 m (pc + 2) ls (zk_L x :: rest))) : W p l e R s m args below meth c H locs cells slots Q (F0 m (pc) ls (rest)) := lv_lload hexec hb hdg hl k
theorem zk_iadd (hexec : p.tables.exec = Jvm.exec) (hb : c.code = cc) {x y : Int} (hdg : decode cc pc = .ok (.iadd, 1)) (k : W p l e R s m args below meth c H locs cells slots Q (F0 m (pc + 1) ls (zk_I (x + y) :: rest))) : W p l e R s m args below meth c H locs cells slots Q (F0 m (pc) ls (zk_I y :: zk_I x :: rest)) := lv_iadd hexec hb hdg (by rw [← Int32.ofInt_add]; exact k)
theorem zk_isub (hexec : p.tables.exec = Jvm.exec) (hb : c.code = cc) {x y : Int} (hdg : decode cc pc = .ok (.isub, 1)) (k : W p l e R s m args below meth c H locs cells slots Q (F0 m (pc + 1) ls (zk_I (x - y) :: rest))) : W p l e R s m args below meth c H locs cells slots Q (F0 m (pc) ls (zk_I y :: zk_I x :: rest)) := lv_isub hexec hb hdg (by rw [← Int32.ofInt_sub]; exact k)
theorem zk_imul (hexec : p.tables.exec = Jvm.exec) (hb : c.code = cc) {x y : Int} (hdg : decode cc pc = .ok (.imul, 1)) (k : W p l e R s m args below meth c H locs cells slots Q (F0 m (pc + 1) ls (zk_I (x * y) :: rest))) : W p l e R s m args below meth c H locs cells slots Q (F0 m (pc) ls (zk_I y :: zk_I x :: rest)) := lv_imul hexec hb hdg (by rw [← Int32.ofInt_mul]; exact k)
theorem zk_ladd (hexec : p.tables.exec = Jvm.exec) (hb : c.code = cc) {x y : Int} (hdg : decode cc pc = .ok (.ladd, 1)) (k : W p l e R s m args below meth c H locs cells slots Q (F0 m (pc + 1) ls (zk_L (x + y) :: rest))) : W p l e R s m args below meth c H locs cells slots Q (F0 m (pc) ls (zk_L y :: zk_L x :: rest)) := lv_ladd hexec hb hdg (by rw [← Int64.ofInt_add]; exact k)
theorem zk_lmul (hexec : p.tables.exec = Jvm.exec) (hb : c.code = cc) {x y : Int} (hdg : decode cc pc = .ok (.lmul, 1)) (k : W p l e R s m args below meth c H locs cells slots Q (F0 m (pc + 1) ls (zk_L (x * y) :: rest))) : W p l e R s m args below meth c H locs cells slots Q (F0 m (pc) ls (zk_L y :: zk_L x :: rest)) := lv_lmul hexec hb hdg (by rw [← Int64.ofInt_mul]; exact k)
theorem zk_riand (hexec : p.tables.exec = Jvm.exec) (hb : c.code = cc) {x y : Int} (hdg : decode cc pc = .ok (.iand, 1)) (k : W p l e R s m args below meth c H locs cells slots Q (F0 m (pc + 1) ls (zk_I (zk_and x y) :: rest))) : W p l e R s m args below meth c H locs cells slots Q (F0 m (pc) ls (zk_I y :: zk_I x :: rest)) := lv_iand hexec hb hdg (by rw [zk_andE]; exact k)
theorem zk_rior (hexec : p.tables.exec = Jvm.exec) (hb : c.code = cc) {x y : Int} (hdg : decode cc pc = .ok (.ior, 1)) (k : W p l e R s m args below meth c H locs cells slots Q (F0 m (pc + 1) ls (zk_I (zk_or x y) :: rest))) : W p l e R s m args below meth c H locs cells slots Q (F0 m (pc) ls (zk_I y :: zk_I x :: rest)) := lv_ior hexec hb hdg (by rw [zk_orE]; exact k)
theorem zk_rixor (hexec : p.tables.exec = Jvm.exec) (hb : c.code = cc) {x y : Int} (hdg : decode cc pc = .ok (.ixor, 1)) (k : W p l e R s m args below meth c H locs cells slots Q (F0 m (pc + 1) ls (zk_I (zk_xor x y) :: rest))) : W p l e R s m args below meth c H locs cells slots Q (F0 m (pc) ls (zk_I y :: zk_I x :: rest)) := lv_ixor hexec hb hdg (by rw [zk_xorE]; exact k)
theorem zk_ineg (hexec : p.tables.exec = Jvm.exec) (hb : c.code = cc) {x : Int} (hdg : decode cc pc = .ok (.ineg, 1)) (k : W p l e R s m args below meth c H locs cells slots Q (F0 m (pc + 1) ls (zk_I (-x) :: rest))) : W p l e R s m args below meth c H locs cells slots Q (F0 m (pc) ls (zk_I x :: rest)) := lv_ineg hexec hb hdg (by rw [← Int32.ofInt_neg]; exact k)
theorem zk_ridiv (hexec : p.tables.exec = Jvm.exec) (hb : c.code = cc) {α : Type} {X : Option α} {r : α} {x y : Int} (hdg : decode cc pc = .ok (.idiv, 1)) (hf : zk_g ((0 ≤ x ∧ x ≤ 2147483647) ∧ (0 < y ∧ y ≤ 2147483647)) X = some r) (k : X = some r → W p l e R s m args below meth c H locs cells slots Q (F0 m (pc + 1) ls (zk_I (x / y) :: rest))) : W p l e R s m args below meth c H locs cells slots Q (F0 m (pc) ls (zk_I y :: zk_I x :: rest)) := by
  obtain ⟨h, hf⟩ := zk_gs hf
  exact lv_idiv hexec hb hdg (zk_nz (by unfold zk_R; omega) (by omega)) (by rw [zk_div h]; exact k hf)
theorem zk_rirem (hexec : p.tables.exec = Jvm.exec) (hb : c.code = cc) {α : Type} {X : Option α} {r : α} {x y : Int} (hdg : decode cc pc = .ok (.irem, 1)) (hf : zk_g ((0 ≤ x ∧ x ≤ 2147483647) ∧ (0 < y ∧ y ≤ 2147483647)) X = some r) (k : X = some r → W p l e R s m args below meth c H locs cells slots Q (F0 m (pc + 1) ls (zk_I (x % y) :: rest))) : W p l e R s m args below meth c H locs cells slots Q (F0 m (pc) ls (zk_I y :: zk_I x :: rest)) := by
  obtain ⟨h, hf⟩ := zk_gs hf
  exact lv_irem hexec hb hdg (zk_nz (by unfold zk_R; omega) (by omega)) (by rw [zk_rem h]; exact k hf)
theorem zk_rldiv (hexec : p.tables.exec = Jvm.exec) (hb : c.code = cc) {α : Type} {X : Option α} {r : α} {x y : Int} (hdg : decode cc pc = .ok (.ldiv, 1)) (hf : zk_g ((0 ≤ x ∧ x ≤ 9223372036854775807) ∧ (0 < y ∧ y ≤ 9223372036854775807)) X = some r) (k : X = some r → W p l e R s m args below meth c H locs cells slots Q (F0 m (pc + 1) ls (zk_L (x / y) :: rest))) : W p l e R s m args below meth c H locs cells slots Q (F0 m (pc) ls (zk_L y :: zk_L x :: rest)) := by
  obtain ⟨h, hf⟩ := zk_gs hf
  exact lv_ldiv hexec hb hdg (zk_lnz (by unfold zk_Q64; omega) (by omega)) (by rw [zk_ldiv h]; exact k hf)
theorem zk_rltdiv (hexec : p.tables.exec = Jvm.exec) (hb : c.code = cc) {α : Type} {X : Option α} {r : α} {x y : Int} (hdg : decode cc pc = .ok (.ldiv, 1)) (hf : zk_g (zk_Q64 x ∧ (0 < y ∧ y ≤ 9223372036854775807)) X = some r) (k : X = some r → W p l e R s m args below meth c H locs cells slots Q (F0 m (pc + 1) ls (zk_L (Int.tdiv x y) :: rest))) : W p l e R s m args below meth c H locs cells slots Q (F0 m (pc) ls (zk_L y :: zk_L x :: rest)) := by
  obtain ⟨h, hf⟩ := zk_gs hf
  exact lv_ldiv hexec hb hdg (zk_lnz (by unfold zk_Q64; omega) (by omega)) (by rw [zk_ltdiv h]; exact k hf)
theorem zk_rlrem (hexec : p.tables.exec = Jvm.exec) (hb : c.code = cc) {α : Type} {X : Option α} {r : α} {x y : Int} (hdg : decode cc pc = .ok (.lrem, 1)) (hf : zk_g ((0 ≤ x ∧ x ≤ 9223372036854775807) ∧ (0 < y ∧ y ≤ 9223372036854775807)) X = some r) (k : X = some r → W p l e R s m args below meth c H locs cells slots Q (F0 m (pc + 1) ls (zk_L (x % y) :: rest))) : W p l e R s m args below meth c H locs cells slots Q (F0 m (pc) ls (zk_L y :: zk_L x :: rest)) := by
  obtain ⟨h, hf⟩ := zk_gs hf
  exact lv_lrem hexec hb hdg (zk_lnz (by unfold zk_Q64; omega) (by omega)) (by rw [zk_lrem h]; exact k hf)
theorem zk_rishl (hexec : p.tables.exec = Jvm.exec) (hb : c.code = cc) {α : Type} {X : Option α} {r : α} {x y : Int} (hdg : decode cc pc = .ok (.ishl, 1)) (hf : zk_g (0 ≤ y ∧ y < 31) X = some r) (k : X = some r → W p l e R s m args below meth c H locs cells slots Q (F0 m (pc + 1) ls (zk_I (x * 2 ^ y.toNat) :: rest))) : W p l e R s m args below meth c H locs cells slots Q (F0 m (pc) ls (zk_I y :: zk_I x :: rest)) := by
  obtain ⟨h, hf⟩ := zk_gs hf
  exact lv_ishl hexec hb hdg (by rw [zk_shl h]; exact k hf)
theorem zk_rishr (hexec : p.tables.exec = Jvm.exec) (hb : c.code = cc) {α : Type} {X : Option α} {r : α} {x y : Int} (hdg : decode cc pc = .ok (.ishr, 1)) (hf : zk_g (zk_R x ∧ (0 ≤ y ∧ y < 32)) X = some r) (k : X = some r → W p l e R s m args below meth c H locs cells slots Q (F0 m (pc + 1) ls (zk_I (x / 2 ^ y.toNat) :: rest))) : W p l e R s m args below meth c H locs cells slots Q (F0 m (pc) ls (zk_I y :: zk_I x :: rest)) := by
  obtain ⟨h, hf⟩ := zk_gs hf
  exact lv_ishr hexec hb hdg (by rw [zk_shr h]; exact k hf)
theorem zk_ri2l (hexec : p.tables.exec = Jvm.exec) (hb : c.code = cc) {α : Type} {X : Option α} {r : α} {x : Int} (hdg : decode cc pc = .ok (.i2l, 1)) (hf : zk_g (zk_R x) X = some r) (k : X = some r → W p l e R s m args below meth c H locs cells slots Q (F0 m (pc + 1) ls (zk_L (x) :: rest))) : W p l e R s m args below meth c H locs cells slots Q (F0 m (pc) ls (zk_I x :: rest)) := by
  obtain ⟨h, hf⟩ := zk_gs hf
  exact lv_i2l hexec hb hdg (zk_i2l h) (k hf)
theorem zk_i2lc (hexec : p.tables.exec = Jvm.exec) (hb : c.code = cc) {x : Int} (hdg : decode cc pc = .ok (.i2l, 1)) (h : zk_R x) (k : W p l e R s m args below meth c H locs cells slots Q (F0 m (pc + 1) ls (zk_L x :: rest))) : W p l e R s m args below meth c H locs cells slots Q (F0 m (pc) ls (zk_I x :: rest)) := lv_i2l hexec hb hdg (zk_i2l h) k
theorem zk_rl2i (hexec : p.tables.exec = Jvm.exec) (hb : c.code = cc) {x : Int} (hdg : decode cc pc = .ok (.l2i, 1)) (k : W p l e R s m args below meth c H locs cells slots Q (F0 m (pc + 1) ls (zk_I x :: rest))) : W p l e R s m args below meth c H locs cells slots Q (F0 m (pc) ls (zk_L x :: rest)) := lv_l2i hexec hb hdg (zk_l2i x) k
theorem zk_ri2b (hexec : p.tables.exec = Jvm.exec) (hb : c.code = cc) {x : Int} (hdg : decode cc pc = .ok (.i2b, 1)) (k : W p l e R s m args below meth c H locs cells slots Q (F0 m (pc + 1) ls (zk_I (zk_byte x) :: rest))) : W p l e R s m args below meth c H locs cells slots Q (F0 m (pc) ls (zk_I x :: rest)) := lv_i2b hexec hb hdg (zk_i2b x) k
theorem zk_rlcmp (hexec : p.tables.exec = Jvm.exec) (hb : c.code = cc) {α : Type} {X : Option α} {r : α} {x y : Int} (hdg : decode cc pc = .ok (.lcmp, 1)) (hf : zk_g (zk_Q64 x ∧ zk_Q64 y) X = some r) (k : X = some r → zk_Q64 x → zk_Q64 y → W p l e R s m args below meth c H locs cells slots Q (F0 m (pc + 1) ls (zk_I (if x < y then -1 else if x = y then 0 else 1) :: rest))) : W p l e R s m args below meth c H locs cells slots Q (F0 m (pc) ls (zk_L y :: zk_L x :: rest)) := by
  obtain ⟨h, hf⟩ := zk_gs hf
  exact W.lcmp hexec hb hdg (by rw [zk_cmp h]; exact k hf h.1 h.2)
theorem zk_icmp_ltV (hexec : p.tables.exec = Jvm.exec) (hb : c.code = cc) {x y : Int} {off : Int} {tgt : Nat} (hdg : decode cc pc = .ok (.if_icmp .lt off, 3)) (ht : (pc : Int) + off = (tgt : Int)) (h : zk_R x ∧ zk_R y) (kt : x < y → W p l e R s m args below meth c H locs cells slots Q (F0 m tgt ls rest)) (kf : ¬ x < y → W p l e R s m args below meth c H locs cells slots Q (F0 m (pc + 3) ls rest)) : W p l e R s m args below meth c H locs cells slots Q (F0 m (pc) ls (zk_I y :: zk_I x :: rest)) := lv_icmp_lt hexec hb hdg ht (fun q => kt ((zk_lt h.1 h.2).mp q)) (fun q => kf (fun z => q ((zk_lt h.1 h.2).mpr z)))
theorem zk_icmp_lt (hexec : p.tables.exec = Jvm.exec) (hb : c.code = cc) {α : Type} {X Y : Option α} {r : α} {x y : Int} {off : Int} {tgt : Nat} (hdg : decode cc pc = .ok (.if_icmp .lt off, 3)) (ht : (pc : Int) + off = (tgt : Int)) {G : Prop} [Decidable G] (hf : zk_g G (if x < y then X else Y) = some r) (hG : G → zk_R x ∧ zk_R y) (kt : X = some r → W p l e R s m args below meth c H locs cells slots Q (F0 m tgt ls rest)) (kf : Y = some r → W p l e R s m args below meth c H locs cells slots Q (F0 m (pc + 3) ls rest)) : W p l e R s m args below meth c H locs cells slots Q (F0 m (pc) ls (zk_I y :: zk_I x :: rest)) := by
  obtain ⟨hg, hf⟩ := zk_gs hf
  have hf := zk_ifs hf
  exact zk_icmp_ltV hexec hb hdg ht (hG hg) (fun q => kt (hf.1 q)) (fun q => kf (hf.2 q))
theorem zk_if_ltV (hexec : p.tables.exec = Jvm.exec) (hb : c.code = cc) {x : Int} {off : Int} {tgt : Nat} (hdg : decode cc pc = .ok (.ifCond .lt off, 3)) (ht : (pc : Int) + off = (tgt : Int)) (h : zk_R x) (kt : x < 0 → W p l e R s m args below meth c H locs cells slots Q (F0 m tgt ls rest)) (kf : ¬ x < 0 → W p l e R s m args below meth c H locs cells slots Q (F0 m (pc + 3) ls rest)) : W p l e R s m args below meth c H locs cells slots Q (F0 m (pc) ls (zk_I x :: rest)) := lv_if_lt hexec hb hdg ht (fun q => kt ((zk_lt (a := x) (b := 0) h (by decide)).mp q)) (fun q => kf (fun z => q ((zk_lt (a := x) (b := 0) h (by decide)).mpr z)))
theorem zk_if_lt (hexec : p.tables.exec = Jvm.exec) (hb : c.code = cc) {α : Type} {X Y : Option α} {r : α} {x : Int} {off : Int} {tgt : Nat} (hdg : decode cc pc = .ok (.ifCond .lt off, 3)) (ht : (pc : Int) + off = (tgt : Int)) {G : Prop} [Decidable G] (hf : zk_g G (if x < 0 then X else Y) = some r) (hG : G → zk_R x) (kt : X = some r → W p l e R s m args below meth c H locs cells slots Q (F0 m tgt ls rest)) (kf : Y = some r → W p l e R s m args below meth c H locs cells slots Q (F0 m (pc + 3) ls rest)) : W p l e R s m args below meth c H locs cells slots Q (F0 m (pc) ls (zk_I x :: rest)) := by
  obtain ⟨hg, hf⟩ := zk_gs hf
  have hf := zk_ifs hf
  exact zk_if_ltV hexec hb hdg ht (hG hg) (fun q => kt (hf.1 q)) (fun q => kf (hf.2 q))
theorem zk_icmp_geV (hexec : p.tables.exec = Jvm.exec) (hb : c.code = cc) {x y : Int} {off : Int} {tgt : Nat} (hdg : decode cc pc = .ok (.if_icmp .ge off, 3)) (ht : (pc : Int) + off = (tgt : Int)) (h : zk_R x ∧ zk_R y) (kt : y ≤ x → W p l e R s m args below meth c H locs cells slots Q (F0 m tgt ls rest)) (kf : ¬ y ≤ x → W p l e R s m args below meth c H locs cells slots Q (F0 m (pc + 3) ls rest)) : W p l e R s m args below meth c H locs cells slots Q (F0 m (pc) ls (zk_I y :: zk_I x :: rest)) := lv_icmp_ge hexec hb hdg ht (fun q => kt ((zk_le h.2 h.1).mp q)) (fun q => kf (fun z => q ((zk_le h.2 h.1).mpr z)))
theorem zk_icmp_ge (hexec : p.tables.exec = Jvm.exec) (hb : c.code = cc) {α : Type} {X Y : Option α} {r : α} {x y : Int} {off : Int} {tgt : Nat} (hdg : decode cc pc = .ok (.if_icmp .ge off, 3)) (ht : (pc : Int) + off = (tgt : Int)) {G : Prop} [Decidable G] (hf : zk_g G (if y ≤ x then X else Y) = some r) (hG : G → zk_R x ∧ zk_R y) (kt : X = some r → W p l e R s m args below meth c H locs cells slots Q (F0 m tgt ls rest)) (kf : Y = some r → W p l e R s m args below meth c H locs cells slots Q (F0 m (pc + 3) ls rest)) : W p l e R s m args below meth c H locs cells slots Q (F0 m (pc) ls (zk_I y :: zk_I x :: rest)) := by
  obtain ⟨hg, hf⟩ := zk_gs hf
  have hf := zk_ifs hf
  exact zk_icmp_geV hexec hb hdg ht (hG hg) (fun q => kt (hf.1 q)) (fun q => kf (hf.2 q))
theorem zk_if_geV (hexec : p.tables.exec = Jvm.exec) (hb : c.code = cc) {x : Int} {off : Int} {tgt : Nat} (hdg : decode cc pc = .ok (.ifCond .ge off, 3)) (ht : (pc : Int) + off = (tgt : Int)) (h : zk_R x) (kt : 0 ≤ x → W p l e R s m args below meth c H locs cells slots Q (F0 m tgt ls rest)) (kf : ¬ 0 ≤ x → W p l e R s m args below meth c H locs cells slots Q (F0 m (pc + 3) ls rest)) : W p l e R s m args below meth c H locs cells slots Q (F0 m (pc) ls (zk_I x :: rest)) := lv_if_ge hexec hb hdg ht (fun q => kt ((zk_le (a := 0) (b := x) (by decide) h).mp q)) (fun q => kf (fun z => q ((zk_le (a := 0) (b := x) (by decide) h).mpr z)))
theorem zk_if_ge (hexec : p.tables.exec = Jvm.exec) (hb : c.code = cc) {α : Type} {X Y : Option α} {r : α} {x : Int} {off : Int} {tgt : Nat} (hdg : decode cc pc = .ok (.ifCond .ge off, 3)) (ht : (pc : Int) + off = (tgt : Int)) {G : Prop} [Decidable G] (hf : zk_g G (if 0 ≤ x then X else Y) = some r) (hG : G → zk_R x) (kt : X = some r → W p l e R s m args below meth c H locs cells slots Q (F0 m tgt ls rest)) (kf : Y = some r → W p l e R s m args below meth c H locs cells slots Q (F0 m (pc + 3) ls rest)) : W p l e R s m args below meth c H locs cells slots Q (F0 m (pc) ls (zk_I x :: rest)) := by
  obtain ⟨hg, hf⟩ := zk_gs hf
  have hf := zk_ifs hf
  exact zk_if_geV hexec hb hdg ht (hG hg) (fun q => kt (hf.1 q)) (fun q => kf (hf.2 q))
theorem zk_icmp_gtV (hexec : p.tables.exec = Jvm.exec) (hb : c.code = cc) {x y : Int} {off : Int} {tgt : Nat} (hdg : decode cc pc = .ok (.if_icmp .gt off, 3)) (ht : (pc : Int) + off = (tgt : Int)) (h : zk_R x ∧ zk_R y) (kt : y < x → W p l e R s m args below meth c H locs cells slots Q (F0 m tgt ls rest)) (kf : ¬ y < x → W p l e R s m args below meth c H locs cells slots Q (F0 m (pc + 3) ls rest)) : W p l e R s m args below meth c H locs cells slots Q (F0 m (pc) ls (zk_I y :: zk_I x :: rest)) := lv_icmp_gt hexec hb hdg ht (fun q => kt ((zk_lt h.2 h.1).mp q)) (fun q => kf (fun z => q ((zk_lt h.2 h.1).mpr z)))
theorem zk_icmp_gt (hexec : p.tables.exec = Jvm.exec) (hb : c.code = cc) {α : Type} {X Y : Option α} {r : α} {x y : Int} {off : Int} {tgt : Nat} (hdg : decode cc pc = .ok (.if_icmp .gt off, 3)) (ht : (pc : Int) + off = (tgt : Int)) {G : Prop} [Decidable G] (hf : zk_g G (if y < x then X else Y) = some r) (hG : G → zk_R x ∧ zk_R y) (kt : X = some r → W p l e R s m args below meth c H locs cells slots Q (F0 m tgt ls rest)) (kf : Y = some r → W p l e R s m args below meth c H locs cells slots Q (F0 m (pc + 3) ls rest)) : W p l e R s m args below meth c H locs cells slots Q (F0 m (pc) ls (zk_I y :: zk_I x :: rest)) := by
  obtain ⟨hg, hf⟩ := zk_gs hf
  have hf := zk_ifs hf
  exact zk_icmp_gtV hexec hb hdg ht (hG hg) (fun q => kt (hf.1 q)) (fun q => kf (hf.2 q))
theorem zk_if_gtV (hexec : p.tables.exec = Jvm.exec) (hb : c.code = cc) {x : Int} {off : Int} {tgt : Nat} (hdg : decode cc pc = .ok (.ifCond .gt off, 3)) (ht : (pc : Int) + off = (tgt : Int)) (h : zk_R x) (kt : 0 < x → W p l e R s m args below meth c H locs cells slots Q (F0 m tgt ls rest)) (kf : ¬ 0 < x → W p l e R s m args below meth c H locs cells slots Q (F0 m (pc + 3) ls rest)) : W p l e R s m args below meth c H locs cells slots Q (F0 m (pc) ls (zk_I x :: rest)) := lv_if_gt hexec hb hdg ht (fun q => kt ((zk_lt (a := 0) (b := x) (by decide) h).mp q)) (fun q => kf (fun z => q ((zk_lt (a := 0) (b := x) (by decide) h).mpr z)))
theorem zk_if_gt (hexec : p.tables.exec = Jvm.exec) (hb : c.code = cc) {α : Type} {X Y : Option α} {r : α} {x : Int} {off : Int} {tgt : Nat} (hdg : decode cc pc = .ok (.ifCond .gt off, 3)) (ht : (pc : Int) + off = (tgt : Int)) {G : Prop} [Decidable G] (hf : zk_g G (if 0 < x then X else Y) = some r) (hG : G → zk_R x) (kt : X = some r → W p l e R s m args below meth c H locs cells slots Q (F0 m tgt ls rest)) (kf : Y = some r → W p l e R s m args below meth c H locs cells slots Q (F0 m (pc + 3) ls rest)) : W p l e R s m args below meth c H locs cells slots Q (F0 m (pc) ls (zk_I x :: rest)) := by
  obtain ⟨hg, hf⟩ := zk_gs hf
  have hf := zk_ifs hf
  exact zk_if_gtV hexec hb hdg ht (hG hg) (fun q => kt (hf.1 q)) (fun q => kf (hf.2 q))
theorem zk_icmp_leV (hexec : p.tables.exec = Jvm.exec) (hb : c.code = cc) {x y : Int} {off : Int} {tgt : Nat} (hdg : decode cc pc = .ok (.if_icmp .le off, 3)) (ht : (pc : Int) + off = (tgt : Int)) (h : zk_R x ∧ zk_R y) (kt : x ≤ y → W p l e R s m args below meth c H locs cells slots Q (F0 m tgt ls rest)) (kf : ¬ x ≤ y → W p l e R s m args below meth c H locs cells slots Q (F0 m (pc + 3) ls rest)) : W p l e R s m args below meth c H locs cells slots Q (F0 m (pc) ls (zk_I y :: zk_I x :: rest)) := lv_icmp_le hexec hb hdg ht (fun q => kt ((zk_le h.1 h.2).mp q)) (fun q => kf (fun z => q ((zk_le h.1 h.2).mpr z)))
theorem zk_icmp_le (hexec : p.tables.exec = Jvm.exec) (hb : c.code = cc) {α : Type} {X Y : Option α} {r : α} {x y : Int} {off : Int} {tgt : Nat} (hdg : decode cc pc = .ok (.if_icmp .le off, 3)) (ht : (pc : Int) + off = (tgt : Int)) {G : Prop} [Decidable G] (hf : zk_g G (if x ≤ y then X else Y) = some r) (hG : G → zk_R x ∧ zk_R y) (kt : X = some r → W p l e R s m args below meth c H locs cells slots Q (F0 m tgt ls rest)) (kf : Y = some r → W p l e R s m args below meth c H locs cells slots Q (F0 m (pc + 3) ls rest)) : W p l e R s m args below meth c H locs cells slots Q (F0 m (pc) ls (zk_I y :: zk_I x :: rest)) := by
  obtain ⟨hg, hf⟩ := zk_gs hf
  have hf := zk_ifs hf
  exact zk_icmp_leV hexec hb hdg ht (hG hg) (fun q => kt (hf.1 q)) (fun q => kf (hf.2 q))
theorem zk_if_leV (hexec : p.tables.exec = Jvm.exec) (hb : c.code = cc) {x : Int} {off : Int} {tgt : Nat} (hdg : decode cc pc = .ok (.ifCond .le off, 3)) (ht : (pc : Int) + off = (tgt : Int)) (h : zk_R x) (kt : x ≤ 0 → W p l e R s m args below meth c H locs cells slots Q (F0 m tgt ls rest)) (kf : ¬ x ≤ 0 → W p l e R s m args below meth c H locs cells slots Q (F0 m (pc + 3) ls rest)) : W p l e R s m args below meth c H locs cells slots Q (F0 m (pc) ls (zk_I x :: rest)) := lv_if_le hexec hb hdg ht (fun q => kt ((zk_le (a := x) (b := 0) h (by decide)).mp q)) (fun q => kf (fun z => q ((zk_le (a := x) (b := 0) h (by decide)).mpr z)))
theorem zk_if_le (hexec : p.tables.exec = Jvm.exec) (hb : c.code = cc) {α : Type} {X Y : Option α} {r : α} {x : Int} {off : Int} {tgt : Nat} (hdg : decode cc pc = .ok (.ifCond .le off, 3)) (ht : (pc : Int) + off = (tgt : Int)) {G : Prop} [Decidable G] (hf : zk_g G (if x ≤ 0 then X else Y) = some r) (hG : G → zk_R x) (kt : X = some r → W p l e R s m args below meth c H locs cells slots Q (F0 m tgt ls rest)) (kf : Y = some r → W p l e R s m args below meth c H locs cells slots Q (F0 m (pc + 3) ls rest)) : W p l e R s m args below meth c H locs cells slots Q (F0 m (pc) ls (zk_I x :: rest)) := by
  obtain ⟨hg, hf⟩ := zk_gs hf
  have hf := zk_ifs hf
  exact zk_if_leV hexec hb hdg ht (hG hg) (fun q => kt (hf.1 q)) (fun q => kf (hf.2 q))
theorem zk_icmp_eqV (hexec : p.tables.exec = Jvm.exec) (hb : c.code = cc) {x y : Int} {off : Int} {tgt : Nat} (hdg : decode cc pc = .ok (.if_icmp .eq off, 3)) (ht : (pc : Int) + off = (tgt : Int)) (h : zk_R x ∧ zk_R y) (kt : x = y → W p l e R s m args below meth c H locs cells slots Q (F0 m tgt ls rest)) (kf : ¬ x = y → W p l e R s m args below meth c H locs cells slots Q (F0 m (pc + 3) ls rest)) : W p l e R s m args below meth c H locs cells slots Q (F0 m (pc) ls (zk_I y :: zk_I x :: rest)) := lv_icmp_eq hexec hb hdg ht (fun q => kt ((zk_eq h.1 h.2).mp q)) (fun q => kf (fun z => q ((zk_eq h.1 h.2).mpr z)))
theorem zk_icmp_eq (hexec : p.tables.exec = Jvm.exec) (hb : c.code = cc) {α : Type} {X Y : Option α} {r : α} {x y : Int} {off : Int} {tgt : Nat} (hdg : decode cc pc = .ok (.if_icmp .eq off, 3)) (ht : (pc : Int) + off = (tgt : Int)) {G : Prop} [Decidable G] (hf : zk_g G (if x = y then X else Y) = some r) (hG : G → zk_R x ∧ zk_R y) (kt : X = some r → W p l e R s m args below meth c H locs cells slots Q (F0 m tgt ls rest)) (kf : Y = some r → W p l e R s m args below meth c H locs cells slots Q (F0 m (pc + 3) ls rest)) : W p l e R s m args below meth c H locs cells slots Q (F0 m (pc) ls (zk_I y :: zk_I x :: rest)) := by
  obtain ⟨hg, hf⟩ := zk_gs hf
  have hf := zk_ifs hf
  exact zk_icmp_eqV hexec hb hdg ht (hG hg) (fun q => kt (hf.1 q)) (fun q => kf (hf.2 q))
theorem zk_if_eqV (hexec : p.tables.exec = Jvm.exec) (hb : c.code = cc) {x : Int} {off : Int} {tgt : Nat} (hdg : decode cc pc = .ok (.ifCond .eq off, 3)) (ht : (pc : Int) + off = (tgt : Int)) (h : zk_R x) (kt : x = 0 → W p l e R s m args below meth c H locs cells slots Q (F0 m tgt ls rest)) (kf : ¬ x = 0 → W p l e R s m args below meth c H locs cells slots Q (F0 m (pc + 3) ls rest)) : W p l e R s m args below meth c H locs cells slots Q (F0 m (pc) ls (zk_I x :: rest)) := lv_if_eq hexec hb hdg ht (fun q => kt ((zk_eq (a := x) (b := 0) h (by decide)).mp q)) (fun q => kf (fun z => q ((zk_eq (a := x) (b := 0) h (by decide)).mpr z)))
theorem zk_if_eq (hexec : p.tables.exec = Jvm.exec) (hb : c.code = cc) {α : Type} {X Y : Option α} {r : α} {x : Int} {off : Int} {tgt : Nat} (hdg : decode cc pc = .ok (.ifCond .eq off, 3)) (ht : (pc : Int) + off = (tgt : Int)) {G : Prop} [Decidable G] (hf : zk_g G (if x = 0 then X else Y) = some r) (hG : G → zk_R x) (kt : X = some r → W p l e R s m args below meth c H locs cells slots Q (F0 m tgt ls rest)) (kf : Y = some r → W p l e R s m args below meth c H locs cells slots Q (F0 m (pc + 3) ls rest)) : W p l e R s m args below meth c H locs cells slots Q (F0 m (pc) ls (zk_I x :: rest)) := by
  obtain ⟨hg, hf⟩ := zk_gs hf
  have hf := zk_ifs hf
  exact zk_if_eqV hexec hb hdg ht (hG hg) (fun q => kt (hf.1 q)) (fun q => kf (hf.2 q))
theorem zk_icmp_neV (hexec : p.tables.exec = Jvm.exec) (hb : c.code = cc) {x y : Int} {off : Int} {tgt : Nat} (hdg : decode cc pc = .ok (.if_icmp .ne off, 3)) (ht : (pc : Int) + off = (tgt : Int)) (h : zk_R x ∧ zk_R y) (kt : ¬ x = y → W p l e R s m args below meth c H locs cells slots Q (F0 m tgt ls rest)) (kf : x = y → W p l e R s m args below meth c H locs cells slots Q (F0 m (pc + 3) ls rest)) : W p l e R s m args below meth c H locs cells slots Q (F0 m (pc) ls (zk_I y :: zk_I x :: rest)) := lv_icmp_ne hexec hb hdg ht (fun q => kt (fun z => q ((zk_eq h.1 h.2).mpr z))) (fun q => kf ((zk_eq h.1 h.2).mp q))
theorem zk_icmp_ne (hexec : p.tables.exec = Jvm.exec) (hb : c.code = cc) {α : Type} {X Y : Option α} {r : α} {x y : Int} {off : Int} {tgt : Nat} (hdg : decode cc pc = .ok (.if_icmp .ne off, 3)) (ht : (pc : Int) + off = (tgt : Int)) {G : Prop} [Decidable G] (hf : zk_g G (if x = y then X else Y) = some r) (hG : G → zk_R x ∧ zk_R y) (kt : Y = some r → W p l e R s m args below meth c H locs cells slots Q (F0 m tgt ls rest)) (kf : X = some r → W p l e R s m args below meth c H locs cells slots Q (F0 m (pc + 3) ls rest)) : W p l e R s m args below meth c H locs cells slots Q (F0 m (pc) ls (zk_I y :: zk_I x :: rest)) := by
  obtain ⟨hg, hf⟩ := zk_gs hf
  have hf := zk_ifs hf
  exact zk_icmp_neV hexec hb hdg ht (hG hg) (fun q => kt (hf.2 q)) (fun q => kf (hf.1 q))
theorem zk_if_neV (hexec : p.tables.exec = Jvm.exec) (hb : c.code = cc) {x : Int} {off : Int} {tgt : Nat} (hdg : decode cc pc = .ok (.ifCond .ne off, 3)) (ht : (pc : Int) + off = (tgt : Int)) (h : zk_R x) (kt : ¬ x = 0 → W p l e R s m args below meth c H locs cells slots Q (F0 m tgt ls rest)) (kf : x = 0 → W p l e R s m args below meth c H locs cells slots Q (F0 m (pc + 3) ls rest)) : W p l e R s m args below meth c H locs cells slots Q (F0 m (pc) ls (zk_I x :: rest)) := lv_if_ne hexec hb hdg ht (fun q => kt (fun z => q ((zk_eq (a := x) (b := 0) h (by decide)).mpr z))) (fun q => kf ((zk_eq (a := x) (b := 0) h (by decide)).mp q))
theorem zk_if_ne (hexec : p.tables.exec = Jvm.exec) (hb : c.code = cc) {α : Type} {X Y : Option α} {r : α} {x : Int} {off : Int} {tgt : Nat} (hdg : decode cc pc = .ok (.ifCond .ne off, 3)) (ht : (pc : Int) + off = (tgt : Int)) {G : Prop} [Decidable G] (hf : zk_g G (if x = 0 then X else Y) = some r) (hG : G → zk_R x) (kt : Y = some r → W p l e R s m args below meth c H locs cells slots Q (F0 m tgt ls rest)) (kf : X = some r → W p l e R s m args below meth c H locs cells slots Q (F0 m (pc + 3) ls rest)) : W p l e R s m args below meth c H locs cells slots Q (F0 m (pc) ls (zk_I x :: rest)) := by
  obtain ⟨hg, hf⟩ := zk_gs hf
  have hf := zk_ifs hf
  exact zk_if_neV hexec hb hdg ht (hG hg) (fun q => kt (hf.2 q)) (fun q => kf (hf.1 q))
theorem zk_lcmp_ltV (hexec : p.tables.exec = Jvm.exec) (hb : c.code = cc) {x y : Int} {off : Int} {tgt : Nat} (hd1 : decode cc pc = .ok (.lcmp, 1)) (hd2 : decode cc (pc + 1) = .ok (.ifCond .lt off, 3)) (ht : ((pc + 1 : Nat) : Int) + off = (tgt : Int)) (h : zk_Q64 x ∧ zk_Q64 y) (kt : x < y → W p l e R s m args below meth c H locs cells slots Q (F0 m tgt ls rest)) (kf : ¬ x < y → W p l e R s m args below meth c H locs cells slots Q (F0 m (pc + 4) ls rest)) : W p l e R s m args below meth c H locs cells slots Q (F0 m pc ls (zk_L y :: zk_L x :: rest)) := by
  refine W.lcmp hexec hb hd1 ?_
  rw [zk_cmp h]
  exact zk_if_ltV hexec hb hd2 ht (by unfold zk_R; split <;> (try split) <;> omega) (fun q => kt ((show ((if x < y then (-1 : Int) else if x = y then 0 else 1) < 0) ↔ (x < y) by (split <;> (try split) <;> omega)).mp q)) (fun q => kf (fun z => q ((show ((if x < y then (-1 : Int) else if x = y then 0 else 1) < 0) ↔ (x < y) by (split <;> (try split) <;> omega)).mpr z)))
theorem zk_lcmp_lt (hexec : p.tables.exec = Jvm.exec) (hb : c.code = cc) {α : Type} {X Y : Option α} {r : α} {x y : Int} {off : Int} {tgt : Nat} (hd1 : decode cc pc = .ok (.lcmp, 1)) (hd2 : decode cc (pc + 1) = .ok (.ifCond .lt off, 3)) (ht : ((pc + 1 : Nat) : Int) + off = (tgt : Int)) {G : Prop} [Decidable G] (hf : zk_g G (if x < y then X else Y) = some r) (hG : G → zk_Q64 x ∧ zk_Q64 y) (kt : X = some r → W p l e R s m args below meth c H locs cells slots Q (F0 m tgt ls rest)) (kf : Y = some r → W p l e R s m args below meth c H locs cells slots Q (F0 m (pc + 4) ls rest)) : W p l e R s m args below meth c H locs cells slots Q (F0 m pc ls (zk_L y :: zk_L x :: rest)) := by
  obtain ⟨hg, hf⟩ := zk_gs hf
  have hf := zk_ifs hf
  exact zk_lcmp_ltV hexec hb hd1 hd2 ht (hG hg) (fun q => kt (hf.1 q)) (fun q => kf (hf.2 q))
theorem zk_lcmp_geV (hexec : p.tables.exec = Jvm.exec) (hb : c.code = cc) {x y : Int} {off : Int} {tgt : Nat} (hd1 : decode cc pc = .ok (.lcmp, 1)) (hd2 : decode cc (pc + 1) = .ok (.ifCond .ge off, 3)) (ht : ((pc + 1 : Nat) : Int) + off = (tgt : Int)) (h : zk_Q64 x ∧ zk_Q64 y) (kt : y ≤ x → W p l e R s m args below meth c H locs cells slots Q (F0 m tgt ls rest)) (kf : ¬ y ≤ x → W p l e R s m args below meth c H locs cells slots Q (F0 m (pc + 4) ls rest)) : W p l e R s m args below meth c H locs cells slots Q (F0 m pc ls (zk_L y :: zk_L x :: rest)) := by
  refine W.lcmp hexec hb hd1 ?_
  rw [zk_cmp h]
  exact zk_if_geV hexec hb hd2 ht (by unfold zk_R; split <;> (try split) <;> omega) (fun q => kt ((show (0 ≤ (if x < y then (-1 : Int) else if x = y then 0 else 1)) ↔ (y ≤ x) by (split <;> (try split) <;> omega)).mp q)) (fun q => kf (fun z => q ((show (0 ≤ (if x < y then (-1 : Int) else if x = y then 0 else 1)) ↔ (y ≤ x) by (split <;> (try split) <;> omega)).mpr z)))
theorem zk_lcmp_ge (hexec : p.tables.exec = Jvm.exec) (hb : c.code = cc) {α : Type} {X Y : Option α} {r : α} {x y : Int} {off : Int} {tgt : Nat} (hd1 : decode cc pc = .ok (.lcmp, 1)) (hd2 : decode cc (pc + 1) = .ok (.ifCond .ge off, 3)) (ht : ((pc + 1 : Nat) : Int) + off = (tgt : Int)) {G : Prop} [Decidable G] (hf : zk_g G (if y ≤ x then X else Y) = some r) (hG : G → zk_Q64 x ∧ zk_Q64 y) (kt : X = some r → W p l e R s m args below meth c H locs cells slots Q (F0 m tgt ls rest)) (kf : Y = some r → W p l e R s m args below meth c H locs cells slots Q (F0 m (pc + 4) ls rest)) : W p l e R s m args below meth c H locs cells slots Q (F0 m pc ls (zk_L y :: zk_L x :: rest)) := by
  obtain ⟨hg, hf⟩ := zk_gs hf
  have hf := zk_ifs hf
  exact zk_lcmp_geV hexec hb hd1 hd2 ht (hG hg) (fun q => kt (hf.1 q)) (fun q => kf (hf.2 q))
theorem zk_lcmp_gtV (hexec : p.tables.exec = Jvm.exec) (hb : c.code = cc) {x y : Int} {off : Int} {tgt : Nat} (hd1 : decode cc pc = .ok (.lcmp, 1)) (hd2 : decode cc (pc + 1) = .ok (.ifCond .gt off, 3)) (ht : ((pc + 1 : Nat) : Int) + off = (tgt : Int)) (h : zk_Q64 x ∧ zk_Q64 y) (kt : y < x → W p l e R s m args below meth c H locs cells slots Q (F0 m tgt ls rest)) (kf : ¬ y < x → W p l e R s m args below meth c H locs cells slots Q (F0 m (pc + 4) ls rest)) : W p l e R s m args below meth c H locs cells slots Q (F0 m pc ls (zk_L y :: zk_L x :: rest)) := by
  refine W.lcmp hexec hb hd1 ?_
  rw [zk_cmp h]
  exact zk_if_gtV hexec hb hd2 ht (by unfold zk_R; split <;> (try split) <;> omega) (fun q => kt ((show (0 < (if x < y then (-1 : Int) else if x = y then 0 else 1)) ↔ (y < x) by (split <;> (try split) <;> omega)).mp q)) (fun q => kf (fun z => q ((show (0 < (if x < y then (-1 : Int) else if x = y then 0 else 1)) ↔ (y < x) by (split <;> (try split) <;> omega)).mpr z)))
theorem zk_lcmp_gt (hexec : p.tables.exec = Jvm.exec) (hb : c.code = cc) {α : Type} {X Y : Option α} {r : α} {x y : Int} {off : Int} {tgt : Nat} (hd1 : decode cc pc = .ok (.lcmp, 1)) (hd2 : decode cc (pc + 1) = .ok (.ifCond .gt off, 3)) (ht : ((pc + 1 : Nat) : Int) + off = (tgt : Int)) {G : Prop} [Decidable G] (hf : zk_g G (if y < x then X else Y) = some r) (hG : G → zk_Q64 x ∧ zk_Q64 y) (kt : X = some r → W p l e R s m args below meth c H locs cells slots Q (F0 m tgt ls rest)) (kf : Y = some r → W p l e R s m args below meth c H locs cells slots Q (F0 m (pc + 4) ls rest)) : W p l e R s m args below meth c H locs cells slots Q (F0 m pc ls (zk_L y :: zk_L x :: rest)) := by
  obtain ⟨hg, hf⟩ := zk_gs hf
  have hf := zk_ifs hf
  exact zk_lcmp_gtV hexec hb hd1 hd2 ht (hG hg) (fun q => kt (hf.1 q)) (fun q => kf (hf.2 q))
theorem zk_lcmp_leV (hexec : p.tables.exec = Jvm.exec) (hb : c.code = cc) {x y : Int} {off : Int} {tgt : Nat} (hd1 : decode cc pc = .ok (.lcmp, 1)) (hd2 : decode cc (pc + 1) = .ok (.ifCond .le off, 3)) (ht : ((pc + 1 : Nat) : Int) + off = (tgt : Int)) (h : zk_Q64 x ∧ zk_Q64 y) (kt : x ≤ y → W p l e R s m args below meth c H locs cells slots Q (F0 m tgt ls rest)) (kf : ¬ x ≤ y → W p l e R s m args below meth c H locs cells slots Q (F0 m (pc + 4) ls rest)) : W p l e R s m args below meth c H locs cells slots Q (F0 m pc ls (zk_L y :: zk_L x :: rest)) := by
  refine W.lcmp hexec hb hd1 ?_
  rw [zk_cmp h]
  exact zk_if_leV hexec hb hd2 ht (by unfold zk_R; split <;> (try split) <;> omega) (fun q => kt ((show ((if x < y then (-1 : Int) else if x = y then 0 else 1) ≤ 0) ↔ (x ≤ y) by (split <;> (try split) <;> omega)).mp q)) (fun q => kf (fun z => q ((show ((if x < y then (-1 : Int) else if x = y then 0 else 1) ≤ 0) ↔ (x ≤ y) by (split <;> (try split) <;> omega)).mpr z)))
theorem zk_lcmp_le (hexec : p.tables.exec = Jvm.exec) (hb : c.code = cc) {α : Type} {X Y : Option α} {r : α} {x y : Int} {off : Int} {tgt : Nat} (hd1 : decode cc pc = .ok (.lcmp, 1)) (hd2 : decode cc (pc + 1) = .ok (.ifCond .le off, 3)) (ht : ((pc + 1 : Nat) : Int) + off = (tgt : Int)) {G : Prop} [Decidable G] (hf : zk_g G (if x ≤ y then X else Y) = some r) (hG : G → zk_Q64 x ∧ zk_Q64 y) (kt : X = some r → W p l e R s m args below meth c H locs cells slots Q (F0 m tgt ls rest)) (kf : Y = some r → W p l e R s m args below meth c H locs cells slots Q (F0 m (pc + 4) ls rest)) : W p l e R s m args below meth c H locs cells slots Q (F0 m pc ls (zk_L y :: zk_L x :: rest)) := by
  obtain ⟨hg, hf⟩ := zk_gs hf
  have hf := zk_ifs hf
  exact zk_lcmp_leV hexec hb hd1 hd2 ht (hG hg) (fun q => kt (hf.1 q)) (fun q => kf (hf.2 q))
theorem zk_lcmp_eqV (hexec : p.tables.exec = Jvm.exec) (hb : c.code = cc) {x y : Int} {off : Int} {tgt : Nat} (hd1 : decode cc pc = .ok (.lcmp, 1)) (hd2 : decode cc (pc + 1) = .ok (.ifCond .eq off, 3)) (ht : ((pc + 1 : Nat) : Int) + off = (tgt : Int)) (h : zk_Q64 x ∧ zk_Q64 y) (kt : x = y → W p l e R s m args below meth c H locs cells slots Q (F0 m tgt ls rest)) (kf : ¬ x = y → W p l e R s m args below meth c H locs cells slots Q (F0 m (pc + 4) ls rest)) : W p l e R s m args below meth c H locs cells slots Q (F0 m pc ls (zk_L y :: zk_L x :: rest)) := by
  refine W.lcmp hexec hb hd1 ?_
  rw [zk_cmp h]
  exact zk_if_eqV hexec hb hd2 ht (by unfold zk_R; split <;> (try split) <;> omega) (fun q => kt ((show ((if x < y then (-1 : Int) else if x = y then 0 else 1) = 0) ↔ (x = y) by (split <;> (try split) <;> omega)).mp q)) (fun q => kf (fun z => q ((show ((if x < y then (-1 : Int) else if x = y then 0 else 1) = 0) ↔ (x = y) by (split <;> (try split) <;> omega)).mpr z)))
theorem zk_lcmp_eq (hexec : p.tables.exec = Jvm.exec) (hb : c.code = cc) {α : Type} {X Y : Option α} {r : α} {x y : Int} {off : Int} {tgt : Nat} (hd1 : decode cc pc = .ok (.lcmp, 1)) (hd2 : decode cc (pc + 1) = .ok (.ifCond .eq off, 3)) (ht : ((pc + 1 : Nat) : Int) + off = (tgt : Int)) {G : Prop} [Decidable G] (hf : zk_g G (if x = y then X else Y) = some r) (hG : G → zk_Q64 x ∧ zk_Q64 y) (kt : X = some r → W p l e R s m args below meth c H locs cells slots Q (F0 m tgt ls rest)) (kf : Y = some r → W p l e R s m args below meth c H locs cells slots Q (F0 m (pc + 4) ls rest)) : W p l e R s m args below meth c H locs cells slots Q (F0 m pc ls (zk_L y :: zk_L x :: rest)) := by
  obtain ⟨hg, hf⟩ := zk_gs hf
  have hf := zk_ifs hf
  exact zk_lcmp_eqV hexec hb hd1 hd2 ht (hG hg) (fun q => kt (hf.1 q)) (fun q => kf (hf.2 q))
theorem zk_lcmp_neV (hexec : p.tables.exec = Jvm.exec) (hb : c.code = cc) {x y : Int} {off : Int} {tgt : Nat} (hd1 : decode cc pc = .ok (.lcmp, 1)) (hd2 : decode cc (pc + 1) = .ok (.ifCond .ne off, 3)) (ht : ((pc + 1 : Nat) : Int) + off = (tgt : Int)) (h : zk_Q64 x ∧ zk_Q64 y) (kt : ¬ x = y → W p l e R s m args below meth c H locs cells slots Q (F0 m tgt ls rest)) (kf : x = y → W p l e R s m args below meth c H locs cells slots Q (F0 m (pc + 4) ls rest)) : W p l e R s m args below meth c H locs cells slots Q (F0 m pc ls (zk_L y :: zk_L x :: rest)) := by
  refine W.lcmp hexec hb hd1 ?_
  rw [zk_cmp h]
  exact zk_if_neV hexec hb hd2 ht (by unfold zk_R; split <;> (try split) <;> omega) (fun q => kt (fun z => q ((show ((if x < y then (-1 : Int) else if x = y then 0 else 1) = 0) ↔ (x = y) by (split <;> (try split) <;> omega)).mpr z))) (fun q => kf ((show ((if x < y then (-1 : Int) else if x = y then 0 else 1) = 0) ↔ (x = y) by (split <;> (try split) <;> omega)).mp q))
theorem zk_lcmp_ne (hexec : p.tables.exec = Jvm.exec) (hb : c.code = cc) {α : Type} {X Y : Option α} {r : α} {x y : Int} {off : Int} {tgt : Nat} (hd1 : decode cc pc = .ok (.lcmp, 1)) (hd2 : decode cc (pc + 1) = .ok (.ifCond .ne off, 3)) (ht : ((pc + 1 : Nat) : Int) + off = (tgt : Int)) {G : Prop} [Decidable G] (hf : zk_g G (if x = y then X else Y) = some r) (hG : G → zk_Q64 x ∧ zk_Q64 y) (kt : Y = some r → W p l e R s m args below meth c H locs cells slots Q (F0 m tgt ls rest)) (kf : X = some r → W p l e R s m args below meth c H locs cells slots Q (F0 m (pc + 4) ls rest)) : W p l e R s m args below meth c H locs cells slots Q (F0 m pc ls (zk_L y :: zk_L x :: rest)) := by
  obtain ⟨hg, hf⟩ := zk_gs hf
  have hf := zk_ifs hf
  exact zk_lcmp_neV hexec hb hd1 hd2 ht (hG hg) (fun q => kt (hf.2 q)) (fun q => kf (hf.1 q))
theorem zk_istorenN (hexec : p.tables.exec = Jvm.exec) (hb : c.code = cc) {α : Type} {X : Int → Option α} {r : α} {k : Fin 4} {i nL : Nat} {x : Int} {lv : List (Nat × Value)} {lv' : Int → List (Nat × Value)} (hdg : decode cc pc = .ok (.istore_n k, 1)) (hi : (k : Nat) = i) (h : lv_has ls nL lv) (hn : i < nL) (hl : ∀ v : Int, (i, zk_I v) :: lv.filter (fun q => !(q.1 == i) && !(q.1 + 1 == i && q.2.category == 2)) = lv' v) (hf : zk_n x X = some r) (kk : ∀ (v : Int), X v = some r → ∀ ls' : Array Slot, lv_has ls' nL (lv' v) → W p l e R s m args below meth c H locs cells slots Q (F0 m (pc + 1) ls' rest)) : W p l e R s m args below meth c H locs cells slots Q (F0 m pc ls (zk_I x :: rest)) :=
  lv_istore_n (lv' := lv' x) hexec hb hdg hi h hn (hl x) (kk x hf)
theorem zk_istoreN (hexec : p.tables.exec = Jvm.exec) (hb : c.code = cc) {α : Type} {X : Int → Option α} {r : α} {i nL : Nat} {x : Int} {lv : List (Nat × Value)} {lv' : Int → List (Nat × Value)} (hdg : decode cc pc = .ok (.istore i, 2)) (h : lv_has ls nL lv) (hn : i < nL) (hl : ∀ v : Int, (i, zk_I v) :: lv.filter (fun q => !(q.1 == i) && !(q.1 + 1 == i && q.2.category == 2)) = lv' v) (hf : zk_n x X = some r) (kk : ∀ (v : Int), X v = some r → ∀ ls' : Array Slot, lv_has ls' nL (lv' v) → W p l e R s m args below meth c H locs cells slots Q (F0 m (pc + 2) ls' rest)) : W p l e R s m args below meth c H locs cells slots Q (F0 m pc ls (zk_I x :: rest)) :=
  lv_istore (lv' := lv' x) hexec hb hdg h hn (hl x) (kk x hf)
theorem zk_lstorenN (hexec : p.tables.exec = Jvm.exec) (hb : c.code = cc) {α : Type} {X : Int → Option α} {r : α} {k : Fin 4} {i nL : Nat} {x : Int} {lv : List (Nat × Value)} {lv' : Int → List (Nat × Value)} (hdg : decode cc pc = .ok (.lstore_n k, 1)) (hi : (k : Nat) = i) (h : lv_has ls nL lv) (hn : i + 1 < nL) (hl : ∀ v : Int, (i, zk_L v) :: lv.filter (fun q => !(q.1 == i) && (!(q.1 == i + 1) && !(q.1 + 1 == i && q.2.category == 2))) = lv' v) (hf : zk_n x X = some r) (kk : ∀ (v : Int), X v = some r → ∀ ls' : Array Slot, lv_has ls' nL (lv' v) → W p l e R s m args below meth c H locs cells slots Q (F0 m (pc + 1) ls' rest)) : W p l e R s m args below meth c H locs cells slots Q (F0 m pc ls (zk_L x :: rest)) :=
  lv_lstore_n (lv' := lv' x) hexec hb hdg hi h hn (hl x) (kk x hf)
theorem zk_lstoreN (hexec : p.tables.exec = Jvm.exec) (hb : c.code = cc) {α : Type} {X : Int → Option α} {r : α} {i nL : Nat} {x : Int} {lv : List (Nat × Value)} {lv' : Int → List (Nat × Value)} (hdg : decode cc pc = .ok (.lstore i, 2)) (h : lv_has ls nL lv) (hn : i + 1 < nL) (hl : ∀ v : Int, (i, zk_L v) :: lv.filter (fun q => !(q.1 == i) && (!(q.1 == i + 1) && !(q.1 + 1 == i && q.2.category == 2))) = lv' v) (hf : zk_n x X = some r) (kk : ∀ (v : Int), X v = some r → ∀ ls' : Array Slot, lv_has ls' nL (lv' v) → W p l e R s m args below meth c H locs cells slots Q (F0 m (pc + 2) ls' rest)) : W p l e R s m args below meth c H locs cells slots Q (F0 m pc ls (zk_L x :: rest)) :=
  lv_lstore (lv' := lv' x) hexec hb hdg h hn (hl x) (kk x hf)
theorem zk_sw {α : Type} {c : Prop} [Decidable c] {x y : Option α} {r : α} (h : (if c then x else y) = some r) : (c ∧ x = some r) ∨ (¬ c ∧ y = some r) := by
  by_cases q : c
  · rw [if_pos q] at h; exact Or.inl ⟨q, h⟩
  · rw [if_neg q] at h; exact Or.inr ⟨q, h⟩
theorem zk_tabIn (hexec : p.tables.exec = Jvm.exec) (hb : c.code = cc) {dflt lo hi : Int} {offs : Array Int} {len : Nat} {x v : Int} {off : Int} {tgt : Nat} (hdg : decode cc pc = .ok (.tableswitch dflt lo hi offs, len)) (hv : x = v) (h1 : (-2147483648 ≤ v ∧ v ≤ 2147483647) ∧ lo ≤ v ∧ v ≤ hi) (ho : offs[(v - lo).toNat]? = some off) (ht : (pc : Int) + off = (tgt : Int))
    (k : W p l e R s m args below meth c H locs cells slots Q (F0 m tgt ls rest)) : W p l e R s m args below meth c H locs cells slots Q (F0 m pc ls (zk_I x :: rest)) := by
  subst hv
  have e : (Int32.ofInt x).toInt = x := Int32.toInt_ofInt_of_le (by omega) (by omega)
  exact lv_tableIn hexec hb hdg (by rw [e]; omega) (by rw [e]; omega) (by rw [e]; exact ho) ht k
theorem zk_tabOut (hexec : p.tables.exec = Jvm.exec) (hb : c.code = cc) {dflt lo hi : Int} {offs : Array Int} {len : Nat} {x : Int} {tgt : Nat} (hdg : decode cc pc = .ok (.tableswitch dflt lo hi offs, len)) (hg : zk_R x) (h : x < lo ∨ hi < x) (ht : (pc : Int) + dflt = (tgt : Int))
    (k : W p l e R s m args below meth c H locs cells slots Q (F0 m tgt ls rest)) : W p l e R s m args below meth c H locs cells slots Q (F0 m pc ls (zk_I x :: rest)) := by
  have e : (Int32.ofInt x).toInt = x := Int32.toInt_ofInt_of_le (by omega) (by omega)
  exact lv_tableOut hexec hb hdg (by rw [e]; exact h) ht k
theorem zk_iinc (hexec : p.tables.exec = Jvm.exec) (hb : c.code = cc) {i nL k : Nat} {n x : Int} {lv lv' : List (Nat × Value)} (hdg : decode cc pc = .ok (.iinc i n, 3)) (h : lv_has ls nL lv) (hk : lv[k]? = some (i, zk_I x)) (hn : i < nL) (hl : (i, zk_I (x + n)) :: lv.filter (fun q => !(q.1 == i) && !(q.1 + 1 == i && q.2.category == 2)) = lv')
    (kk : ∀ ls' : Array Slot, lv_has ls' nL lv' → W p l e R s m args below meth c H locs cells slots Q (F0 m (pc + 3) ls' rest)) : W p l e R s m args below meth c H locs cells slots Q (F0 m pc ls rest) :=
  lv_iinc (v := Int32.ofInt (x + n)) hexec hb hdg h hk (by rw [Int32.ofInt_add]) hn hl kk
theorem zk_ldc (hexec : p.tables.exec = Jvm.exec) (hb : c.code = cc) {own : String} {index : Nat} {v : Int32} (n : Int) (hown : s.vm.findClass own = some m.cls) (hconst : (Jvm.Cond.constant own index v).before args s = true) (hv : v = Int32.ofInt n) (hdg : decode cc pc = .ok (.ldc index, 2))
    (k : W p l e R s m args below meth c H locs cells slots Q (F0 m (pc + 2) ls (zk_I n :: rest))) : W p l e R s m args below meth c H locs cells slots Q (F0 m pc ls rest) :=
  lv_ldc hexec hb hown hconst hdg (by rw [hv]; exact k)
theorem zk_ldcw (hexec : p.tables.exec = Jvm.exec) (hb : c.code = cc) {own : String} {index : Nat} {v : Int32} (n : Int) (hown : s.vm.findClass own = some m.cls) (hconst : (Jvm.Cond.constant own index v).before args s = true) (hv : v = Int32.ofInt n) (hdg : decode cc pc = .ok (.ldc_w index, 3))
    (k : W p l e R s m args below meth c H locs cells slots Q (F0 m (pc + 3) ls (zk_I n :: rest))) : W p l e R s m args below meth c H locs cells slots Q (F0 m pc ls rest) :=
  lv_ldcw hexec hb hown hconst hdg (by rw [hv]; exact k)
theorem zk_ldc2 (hexec : p.tables.exec = Jvm.exec) (hb : c.code = cc) {own : String} {index : Nat} {v : Int64} (n : Int) (hown : s.vm.findClass own = some m.cls) (hconst : (Jvm.Cond.constantLong own index v).before args s = true) (hv : v = Int64.ofInt n) (hdg : decode cc pc = .ok (.ldc2_w index, 3))
    (k : W p l e R s m args below meth c H locs cells slots Q (F0 m (pc + 3) ls (zk_L n :: rest))) : W p l e R s m args below meth c H locs cells slots Q (F0 m pc ls rest) :=
  lv_ldc2 hexec hb hown hconst hdg (by rw [hv]; exact k)
theorem zk_iincN (hexec : p.tables.exec = Jvm.exec) (hb : c.code = cc) {α : Type} {X : Int → Option α} {r : α} {i nL k : Nat} {n x : Int} {lv : List (Nat × Value)} {lv' : Int → List (Nat × Value)} (hdg : decode cc pc = .ok (.iinc i n, 3)) (h : lv_has ls nL lv) (hk : lv[k]? = some (i, zk_I x)) (hn : i < nL) (hl : ∀ v : Int, (i, zk_I v) :: lv.filter (fun q => !(q.1 == i) && !(q.1 + 1 == i && q.2.category == 2)) = lv' v) (hf : zk_n (x + n) X = some r)
    (kk : ∀ v : Int, X v = some r → ∀ ls' : Array Slot, lv_has ls' nL (lv' v) → W p l e R s m args below meth c H locs cells slots Q (F0 m (pc + 3) ls' rest)) : W p l e R s m args below meth c H locs cells slots Q (F0 m pc ls rest) :=
  zk_iinc (lv' := lv' (x + n)) hexec hb hdg h hk hn (hl (x + n)) (kk (x + n) hf)
theorem zk_mabs (hexec : p.tables.exec = Jvm.exec) (hb : c.code = cc) {α : Type} {X : Option α} {r : α} (hml : c.maxLocals = ls.size) {own : String} {index : Nat} (hown : s.vm.findClass own = some m.cls) (hlink : (Cond.methodLink own index Lib.Math.abs.name).before args s = true) (hstat : (Cond.static Lib.Math.abs.name).before args s = true) (hini : (Cond.initialized "java/lang/Math").before args s = true) (hcode : (Cond.code Lib.Math.abs.name Lib.Math.abs.code 1 (some .int)).before args s = true)
    (hframes : 1 ≤ R.frames) (hlocals : (rest.map fun v => v.category).sum + 13 ≤ R.locals) (hc : cells ≤ R.cells) (hs : slots ≤ R.slots) {x : Int} (hf : zk_g (zk_R x) X = some r) (hdg : decode cc pc = .ok (.invokestatic index, 3))
    (kk : X = some r → W p l e R s m args below meth c H locs cells slots Q (F0 m (pc + 3) ls (zk_I (if x < 0 then -x else x) :: rest))) : W p l e R s m args below meth c H locs cells slots Q (F0 m pc ls (zk_I x :: rest)) := by
  obtain ⟨h, hf⟩ := zk_gs hf
  exact va_mabs hexec hb hml hown hlink hstat hini hcode hframes hlocals hc hs hdg (by rw [zk_absE h]; exact kk hf)
theorem zk_mmax (hexec : p.tables.exec = Jvm.exec) (hb : c.code = cc) {α : Type} {X : Option α} {r : α} (hml : c.maxLocals = ls.size) {own : String} {index : Nat} (hown : s.vm.findClass own = some m.cls) (hlink : (Cond.methodLink own index Lib.Math.max.name).before args s = true) (hstat : (Cond.static Lib.Math.max.name).before args s = true) (hini : (Cond.initialized "java/lang/Math").before args s = true) (hcode : (Cond.code Lib.Math.max.name Lib.Math.max.code 2 (some .int)).before args s = true)
    (hframes : 1 ≤ R.frames) (hlocals : (rest.map fun v => v.category).sum + 13 ≤ R.locals) (hc : cells ≤ R.cells) (hs : slots ≤ R.slots) {x y : Int} (hf : zk_g (zk_R x ∧ zk_R y) X = some r) (hdg : decode cc pc = .ok (.invokestatic index, 3))
    (kk : X = some r → W p l e R s m args below meth c H locs cells slots Q (F0 m (pc + 3) ls (zk_I (max x y) :: rest))) : W p l e R s m args below meth c H locs cells slots Q (F0 m pc ls (zk_I y :: zk_I x :: rest)) := by
  obtain ⟨h, hf⟩ := zk_gs hf
  exact va_mmax hexec hb hml hown hlink hstat hini hcode hframes hlocals hc hs hdg (by rw [zk_mxE h]; exact kk hf)
theorem zk_mmin (hexec : p.tables.exec = Jvm.exec) (hb : c.code = cc) {α : Type} {X : Option α} {r : α} (hml : c.maxLocals = ls.size) {own : String} {index : Nat} (hown : s.vm.findClass own = some m.cls) (hlink : (Cond.methodLink own index Lib.Math.min.name).before args s = true) (hstat : (Cond.static Lib.Math.min.name).before args s = true) (hini : (Cond.initialized "java/lang/Math").before args s = true) (hcode : (Cond.code Lib.Math.min.name Lib.Math.min.code 2 (some .int)).before args s = true)
    (hframes : 1 ≤ R.frames) (hlocals : (rest.map fun v => v.category).sum + 13 ≤ R.locals) (hc : cells ≤ R.cells) (hs : slots ≤ R.slots) {x y : Int} (hf : zk_g (zk_R x ∧ zk_R y) X = some r) (hdg : decode cc pc = .ok (.invokestatic index, 3))
    (kk : X = some r → W p l e R s m args below meth c H locs cells slots Q (F0 m (pc + 3) ls (zk_I (min x y) :: rest))) : W p l e R s m args below meth c H locs cells slots Q (F0 m pc ls (zk_I y :: zk_I x :: rest)) := by
  obtain ⟨h, hf⟩ := zk_gs hf
  exact va_mmin hexec hb hml hown hlink hstat hini hcode hframes hlocals hc hs hdg (by rw [zk_mnE h]; exact kk hf)
theorem zk_mminl (hexec : p.tables.exec = Jvm.exec) (hb : c.code = cc) {α : Type} {X : Option α} {r : α} (hml : c.maxLocals = ls.size) {own : String} {index : Nat} (hown : s.vm.findClass own = some m.cls) (hlink : (Cond.methodLink own index Lib.MathLoose.min_long.x).before args s = true) (hstat : (Cond.static Lib.MathLoose.min_long.x).before args s = true) (hini : (Cond.initialized "java/lang/Math").before args s = true) (hcode : (Cond.code Lib.MathLoose.min_long.x Lib.MathLoose.min_long.code 4 (some .long)).before args s = true)
    (hframes : 1 ≤ R.frames) (hlocals : (rest.map fun v => v.category).sum + 15 ≤ R.locals) (hc : cells ≤ R.cells) (hs : slots ≤ R.slots) {x y : Int} (hf : zk_g (zk_Q64 x ∧ zk_Q64 y) X = some r) (hdg : decode cc pc = .ok (.invokestatic index, 3))
    (kk : X = some r → W p l e R s m args below meth c H locs cells slots Q (F0 m (pc + 3) ls (zk_L (min x y) :: rest))) : W p l e R s m args below meth c H locs cells slots Q (F0 m pc ls (zk_L y :: zk_L x :: rest)) := by
  obtain ⟨h, hf⟩ := zk_gs hf
  exact va_mmin_long hexec hb hml hown hlink hstat hini hcode hframes hlocals hc hs hdg (by rw [zk_lmnE h]; exact kk hf)
end ZROWS
/-! the worlds -/
section ZWORLD
variable {p : Program} {l : Launch} {e : Env} {R : Room} {s : State} {m : MethodId} {args : Array Value} {below : List Frame} {meth : Method} {c : Code} {H : Heap} {locs : List Loc} {cells slots : Nat} {Q : State → Prop}
variable {cc : ByteArray} {pc : Nat} {ls : Array Slot} {rest st0 : List Value} {D : va_G} {cl : List vw_C} {A A0 A1 : Nat → Prop} {a : Nat} {tys : List (ClassId × FieldType)} {ws : va_W} {H0 : Heap} {P : ZS → va_W} {σ : ZS} {α : Type} {X : Option α} {r : α}
theorem zk_fc {g : Int → Int} {i : Int} (h : 0 ≤ i ∧ i ≤ 2147483647) : zk_f g (Int32.ofInt i).toNatClampNeg = Int32.ofInt (g i) := by
  unfold zk_f
  rw [zk_cln h, zk_toNat h.1]
theorem zk_fu {σ : ZS} {k : Nat} {i x : Int} (h : 0 ≤ i ∧ i ≤ 2147483647) : upd (zk_f (σ k)) (Int32.ofInt i).toNatClampNeg (Int32.ofInt x) = zk_f (zk_u σ k i x k) := by
  funext j
  rw [zk_cln h]
  unfold zk_f upd
  rw [zk_ui]
  by_cases q : j = i.toNat
  · rw [if_pos q, if_pos (by omega)]
  · rw [if_neg q, if_neg (by omega)]
theorem zk_ofN {x : Int} (h : 0 ≤ x) : Int32.ofNat x.toNat = Int32.ofInt x := by
  rw [← Int32.ofInt_eq_ofNat, zk_toNat h]
theorem zk_fcp {σ : ZS} {ks kd : Nat} {si di n : Int} (h1 : 0 ≤ si ∧ si ≤ 2147483647) (h2 : 0 ≤ di ∧ di ≤ 2147483647) (h3 : 0 ≤ n ∧ n ≤ 2147483647) : va_cpy (zk_f (σ ks)) (zk_f (σ kd)) (Int32.ofInt si).toNatClampNeg (Int32.ofInt di).toNatClampNeg (Int32.ofInt n).toNatClampNeg = zk_f (zk_cp σ ks si kd di n kd) := by
  funext j
  rw [zk_cln h1, zk_cln h2, zk_cln h3]
  unfold va_cpy zk_f
  rw [zk_cpi]
  by_cases q : di.toNat ≤ j ∧ j < di.toNat + n.toNat
  · rw [if_pos q, if_pos (by omega)]
    rw [show ((si.toNat + (j - di.toNat) : Nat) : Int) = si + ((j : Int) - di) by omega]
  · rw [if_neg q, if_neg (by omega)]
theorem zk_aald (hexec : p.tables.exec = Jvm.exec) (hb : c.code = cc) (hK : va_K D cl tys s) (hP : va_P D cl ws H) (q0 t0 : Nat) {cA : ClassId} {ty : FieldType} {n : Nat} {f : Nat → Option Nat} (ha : ws[q0]? = some (a, .inl (cA, n, .inr (.inr (.inr (.inr f)))))) (ht : tys[t0]? = some (cA, ty)) (hty : ty.isReference = true) {i : Int32} (hin : vp_in i n) (hdg : decode cc pc = .ok (.aaload, 1))
    (kk : W p l e R s m args below meth c H locs cells slots Q (F0 m (pc + 1) ls (va_rf (f i.toNatClampNeg) :: rest))) : W p l e R s m args below meth c H locs cells slots Q (F0 m pc ls (.int i :: .ref a :: rest)) := by
  have hlt : i.toNatClampNeg < n := Nat.not_le.mp fun q => hin (Or.inr q)
  exact W.aald (v := va_rf (f i.toNatClampNeg)) (ty := ty) hexec hb (hP q0 _ ha) ((hK.2 t0 _ ht).1 n (fun j => va_rf (f j))) hty (fun q => by cases q) (by show ¬ (i < 0 ∨ (arrV _ _ _).slots.size ≤ _); rw [arrV_size]; exact hin) (by show (arrV _ _ _).slots[_]? = _; rw [arrV_read _ _ hlt]) rfl rfl hdg kk
theorem zk_alen (hexec : p.tables.exec = Jvm.exec) (hb : c.code = cc) (hK : va_K D cl tys s) (hP : va_P D cl ws H) (q0 t0 : Nat) {cA : ClassId} {x : vp_A} (ha : ws[q0]? = some (a, .inl (cA, x))) {ty : FieldType} (ht : tys[t0]? = some (cA, ty)) {N : Int} (hN : N = (x.1 : Int)) (hdg : decode cc pc = .ok (.arraylength, 1))
    (kk : W p l e R s m args below meth c H locs cells slots Q (F0 m (pc + 1) ls (zk_I N :: rest))) : W p l e R s m args below meth c H locs cells slots Q (F0 m pc ls (.ref a :: rest)) :=
  va_alen (v := Int32.ofInt N) hexec hb hK hP q0 t0 ha ht (by rw [hN, Int32.ofInt_eq_ofNat]) hdg kk
theorem zk_iald (hexec : p.tables.exec = Jvm.exec) (hb : c.code = cc) (hK : va_K D cl tys s) (hP : va_P D cl ws H) (q0 t0 : Nat) {cA : ClassId} {n : Nat} {g : Int → Int} {N i : Int} (ha : ws[q0]? = some (a, .inl (cA, n, .inl (zk_f g)))) (ht : tys[t0]? = some (cA, .int)) (hN : N = (n : Int) ∧ N ≤ 2147483647) (hf : zk_g (0 ≤ i ∧ i < N) X = some r) (hdg : decode cc pc = .ok (.iaload, 1))
    (k : X = some r → W p l e R s m args below meth c H locs cells slots Q (F0 m (pc + 1) ls (zk_I (g i) :: rest))) : W p l e R s m args below meth c H locs cells slots Q (F0 m pc ls (zk_I i :: .ref a :: rest)) := by
  obtain ⟨h, hf⟩ := zk_gs hf
  refine va_iald hexec hb hK hP q0 t0 ha ht (zk_in (by omega) (by omega)) hdg ?_
  rw [zk_fc (by omega)]
  exact k hf
theorem zk_bald (hexec : p.tables.exec = Jvm.exec) (hb : c.code = cc) (hK : va_K D cl tys s) (hP : va_P D cl ws H) (q0 t0 : Nat) {cA : ClassId} {n : Nat} {g : Int → Int} {N i : Int} (ha : ws[q0]? = some (a, .inl (cA, n, .inl (zk_f g)))) (ht : tys[t0]? = some (cA, .byte)) (hN : N = (n : Int) ∧ N ≤ 2147483647) (hf : zk_g (0 ≤ i ∧ i < N) X = some r) (hdg : decode cc pc = .ok (.baload, 1))
    (k : X = some r → W p l e R s m args below meth c H locs cells slots Q (F0 m (pc + 1) ls (zk_I (g i) :: rest))) : W p l e R s m args below meth c H locs cells slots Q (F0 m pc ls (zk_I i :: .ref a :: rest)) := by
  obtain ⟨h, hf⟩ := zk_gs hf
  refine va_bald hexec hb hK hP q0 t0 ha ht (zk_in (by omega) (by omega)) hdg ?_
  rw [zk_fc (by omega)]
  exact k hf
theorem zk_iast (hexec : p.tables.exec = Jvm.exec) (hb : c.code = cc) (hK : va_K D cl tys s) (hP : va_P D cl (P σ) H) (hD : ∀ τ, va_D A (P τ)) (hS : va_S A H0 H locs) (q0 t0 k : Nat) {cA : ClassId} {n : Nat} {N i x : Int} (ha : (P σ)[q0]? = some (a, .inl (cA, n, .inl (zk_f (σ k))))) (ht : tys[t0]? = some (cA, .int)) (hN : N = (n : Int) ∧ N ≤ 2147483647)
    (hset : (P σ).set q0 (a, .inl (cA, n, .inl (zk_f (zk_u σ k i x k)))) = P (zk_u σ k i x)) (hf : zk_g (0 ≤ i ∧ i < N) X = some r) (hdg : decode cc pc = .ok (.iastore, 1))
    (kk : X = some r → ∀ (H1 : Heap) (locs1 : List Loc), va_P D cl (P (zk_u σ k i x)) H1 → va_S A H0 H1 locs1 → W p l e R s m args below meth c H1 locs1 cells slots Q (F0 m (pc + 1) ls rest)) : W p l e R s m args below meth c H locs cells slots Q (F0 m pc ls (zk_I x :: zk_I i :: .ref a :: rest)) := by
  obtain ⟨h, hf⟩ := zk_gs hf
  refine va_iast hexec hb hK hP (hD σ) hS q0 t0 ha ht (zk_in (by omega) (by omega)) hdg (fun H1 locs1 hP1 _ hS1 => ?_)
  rw [zk_fu (by omega), hset] at hP1
  exact kk hf H1 locs1 hP1 hS1
theorem zk_iastN {X : ZS → Option α} (hexec : p.tables.exec = Jvm.exec) (hb : c.code = cc) (hK : va_K D cl tys s) (hP : va_P D cl (P σ) H) (hD : ∀ τ, va_D A (P τ)) (hS : va_S A H0 H locs) (q0 t0 k : Nat) {cA : ClassId} {n : Nat} {N i x : Int} (ha : (P σ)[q0]? = some (a, .inl (cA, n, .inl (zk_f (σ k))))) (ht : tys[t0]? = some (cA, .int)) (hN : N = (n : Int) ∧ N ≤ 2147483647)
    (hset : (P σ).set q0 (a, .inl (cA, n, .inl (zk_f (zk_u σ k i x k)))) = P (zk_u σ k i x)) (hf : zk_g (0 ≤ i ∧ i < N) (zk_n (zk_u σ k i x) X) = some r) (hdg : decode cc pc = .ok (.iastore, 1))
    (kk : ∀ (s1 : ZS) (H1 : Heap) (locs1 : List Loc), X s1 = some r → va_P D cl (P s1) H1 → va_S A H0 H1 locs1 → W p l e R s m args below meth c H1 locs1 cells slots Q (F0 m (pc + 1) ls rest)) : W p l e R s m args below meth c H locs cells slots Q (F0 m pc ls (zk_I x :: zk_I i :: .ref a :: rest)) :=
  zk_iast hexec hb hK hP hD hS q0 t0 k ha ht hN hset hf hdg (fun hf H1 locs1 hP1 hS1 => kk _ H1 locs1 hf hP1 hS1)
/-- what a method answers and leaves: vo, B of the state behind it, nothing else written -/
def zk_Q (vo : Option Value) (B : State → Prop) (A : Nat → Prop) : Array Value → State → Outcome → State → Prop := fun _ st oc t => oc = .returned vo ∧ B t ∧ va_F A st t
def zk_W (D : va_G) (cl : List vw_C) (tys : List (ClassId × FieldType)) (ws : va_W) (U : State) : Prop := va_P D cl ws U.heap ∧ zk_KX D cl tys U
/-- a method that writes its world; one that writes nothing; one that has no world -/
def zk_MW (l : Launch) (y : MethodName) (wd : List Cond) (rm : Room) (D : va_G) (cl : List vw_C) (tys : List (ClassId × FieldType)) (A : Nat → Prop) (av : List Value) (w w' : va_W) (vo : Option Value) : Prop :=
  Met l y wd rm (va_Pc av (zk_W D cl tys w)) (zk_Q vo (fun t => va_P D cl w' t.heap) A) 0 0 A
def zk_MR (l : Launch) (y : MethodName) (wd : List Cond) (rm : Room) (D : va_G) (cl : List vw_C) (tys : List (ClassId × FieldType)) (av : List Value) (w : va_W) (vo : Option Value) : Prop :=
  Met l y wd rm (va_Pc av (zk_W D cl tys w)) (zk_Q vo (fun _ => True) (fun _ => False)) 0 0 (fun _ => False)
def zk_MS (l : Launch) (y : MethodName) (wd : List Cond) (rm : Room) (av : List Value) (vo : Option Value) : Prop :=
  Met l y wd rm (va_Pc av (fun _ => True)) (zk_Q vo (fun _ => True) (fun _ => False)) 0 0 (fun _ => False)
theorem zk_call {vo : Option Value} {B : State → Prop} {free : Addr → Prop} {mc ms : Nat} {av : Array Value} (hr : va_Run p l e R s m args below meth c H locs cells slots mc ms (F0 m pc ls st0) rest (zk_Q vo B A1 av) free) (hS : va_S A0 H0 H locs) (hA : ∀ q, q < H.size → A1 q → A0 q) (hfr : ∀ q, free q → A0 q)
    (kk : ∀ (t : State) (H1 : Heap) (locs1 : List Loc), t.heap = H1 → B t → H.size ≤ H1.size → (∀ q : Nat, q < H.size → ¬ A1 q → H1[q]? = H[q]?) → va_S A0 H0 H1 locs1 → W p l e R s m args below meth c H1 locs1 (cells + mc) (slots + ms) Q (F0 m (pc + 3) ls (vo.toList ++ rest))) : W p l e R s m args below meth c H locs cells slots Q (F0 m pc ls st0) := by
  intro T hT X
  obtain ⟨v, st₀, t, T', L, h0, X', hL, e1, e2, ⟨hv, hb, hz, hk⟩, st⟩ := hr T hT X
  cases hv
  rw [h0] at hz hk
  obtain ⟨t2, a1, b1⟩ := kk t T'.heap (locs ++ L) e1.symm hb (by rw [e1]; exact hz) (fun q h1 h2 => by rw [e1]; exact hk q h1 h2)
    ⟨Nat.le_trans hS.1 (by rw [e1]; exact hz), fun q h1 h2 => by rw [e1, hk q (Nat.lt_of_lt_of_le h1 hS.1) (fun z => h2 (hA q (Nat.lt_of_lt_of_le h1 hS.1) z))]; exact hS.2.1 q h1 h2, fun q hq => by
      rcases List.mem_append.mp hq with h | h
      · exact hS.2.2 q h
      · exact hfr _ (hL q h)⟩ T' rfl X'
  exact ⟨t2, st t2 a1, b1⟩
theorem zk_blindW {w : va_W} {av : List Value} : FrameBlind (va_Pc av (zk_W D cl tys w)) := fun ar U g mk q => ⟨q.1, q.2.1, va_K.moved (u := U) (U := U.calling g mk ar) (Vm.Alike.refl U.vm) q.2.2.1, zk_Xsame (u := U) (U := U.calling g mk ar) rfl q.2.2.2⟩
theorem zk_blindS {av : List Value} : FrameBlind (va_Pc av (fun _ => True)) := fun _ _ _ _ q => ⟨q.1, trivial⟩
theorem zk_preW {w : va_W} {av : List Value} (hK : zk_KX D cl tys s) (hP : va_P D cl w H) : ∀ U : State, U.heap = H → s.WarmedH U.vm → (va_Pc av (zk_W D cl tys w)) av.toArray U := fun U hU hW => ⟨rfl, by rw [hU]; exact hP, va_K.moved hW.alike hK.1, zk_Xwarm hW hK.2⟩
section CALLS
variable {y : MethodName} {bytes : ByteArray} {maxL nL n index : Nat} {ret : Option FieldType} {wd : List Cond} {rm : Room} {own C : String} {b : Addr} {As : List Value} {Ts : List Cond} {w w' : va_W} {vo : Option Value}
theorem zk_callVW (S : CallFix p m c cc nL s args Ts own) (hM : zk_MW l y wd rm D cl tys A (.ref b :: As) w w' vo) (cw : CallW R s args own C index y bytes maxL ret wd rm 0 0 n) (hK : zk_KX D cl tys s) (hP : va_P D cl w H) (hS : va_S A H0 H locs) (hrc : ∃ cellB : Cell, H[b]? = some cellB ∧ cellB.vm.isStatics = false ∧ s.vm.findClass C = some cellB.cls)
    (hn : As.length = n) (hls : ls.size = nL) (hst : st0 = As.reverse ++ .ref b :: rest) (hR : (rest.map fun v => v.category).sum ≤ 8) (hdg : decode cc pc = .ok (.invokevirtual index, 3)) (hcs : cells ≤ R.cells ∧ slots ≤ R.slots)
    (kk : ∀ (H1 : Heap) (locs1 : List Loc), va_P D cl w' H1 → va_S A H0 H1 locs1 → W p l e R s m args below meth c H1 locs1 cells slots Q (F0 m (pc + 3) ls (vo.toList ++ rest))) : W p l e R s m args below meth c H locs cells slots Q (F0 m pc ls st0) := by
  exact zk_call (va_runV (As := As) (rest := rest) (g := F0 m pc ls st0) (H := H) (locs := locs) (cells := cells) (slots := slots) S hM cw ⟨zk_blindW, hrc, zk_preW hK hP⟩ rfl hn hls hst (lv_room hR) hdg hcs) hS (fun q _ z => z) (fun q z => z) (fun t H1 locs1 ht hB _ _ hS1 => kk H1 locs1 (by rw [← ht]; exact hB) hS1)
theorem zk_callVR (S : CallFix p m c cc nL s args Ts own) (hM : zk_MR l y wd rm D cl tys (.ref b :: As) w vo) (cw : CallW R s args own C index y bytes maxL ret wd rm 0 0 n) (hK : zk_KX D cl tys s) (hP : va_P D cl w H) (hS : va_S A H0 H locs) (hrc : ∃ cellB : Cell, H[b]? = some cellB ∧ cellB.vm.isStatics = false ∧ s.vm.findClass C = some cellB.cls)
    (hn : As.length = n) (hls : ls.size = nL) (hst : st0 = As.reverse ++ .ref b :: rest) (hR : (rest.map fun v => v.category).sum ≤ 8) (hdg : decode cc pc = .ok (.invokevirtual index, 3)) (hcs : cells ≤ R.cells ∧ slots ≤ R.slots)
    (kk : ∀ (H1 : Heap) (locs1 : List Loc), va_P D cl w H1 → va_S A H0 H1 locs1 → W p l e R s m args below meth c H1 locs1 cells slots Q (F0 m (pc + 3) ls (vo.toList ++ rest))) : W p l e R s m args below meth c H locs cells slots Q (F0 m pc ls st0) := by
  exact zk_call (va_runV (As := As) (rest := rest) (g := F0 m pc ls st0) (H := H) (locs := locs) (cells := cells) (slots := slots) S hM cw ⟨zk_blindW, hrc, zk_preW hK hP⟩ rfl hn hls hst (lv_room hR) hdg hcs) hS (fun q _ z => z.elim) (fun q z => z.elim) (fun t H1 locs1 ht hB _ hk hS1 => kk H1 locs1 (hP.kept (fun k q hq => hk q.1 (hP k q hq).lt (fun z => z))) hS1)
theorem zk_callSS (S : CallFix p m c cc nL s args Ts own) (hM : zk_MS l y wd rm As vo) (cw : CallB R s args own index y bytes maxL ret wd rm 0 0 n ∧ (Cond.static y).before args s = true) (hP : va_P D cl w H) (hS : va_S A H0 H locs)
    (hn : As.length = n) (hls : ls.size = nL) (hst : st0 = As.reverse ++ rest) (hR : (rest.map fun v => v.category).sum ≤ 8) (hdg : decode cc pc = .ok (.invokestatic index, 3)) (hcs : cells ≤ R.cells ∧ slots ≤ R.slots)
    (kk : ∀ (H1 : Heap) (locs1 : List Loc), va_P D cl w H1 → va_S A H0 H1 locs1 → W p l e R s m args below meth c H1 locs1 cells slots Q (F0 m (pc + 3) ls (vo.toList ++ rest))) : W p l e R s m args below meth c H locs cells slots Q (F0 m pc ls st0) := by
  exact zk_call (va_runS (As := As) (rest := rest) (g := F0 m pc ls st0) (H := H) (locs := locs) (cells := cells) (slots := slots) S hM cw ⟨zk_blindS, fun U _ _ => ⟨rfl, trivial⟩⟩ rfl hn hls hst (lv_room hR) hdg hcs) hS (fun q _ z => z.elim) (fun q z => z.elim) (fun t H1 locs1 ht hB _ hk hS1 => kk H1 locs1 (hP.kept (fun k q hq => hk q.1 (hP k q hq).lt (fun z => z))) hS1)
theorem zk_callS0 (S : CallFix p m c cc nL s args Ts own) (hM : zk_MS l y wd rm As vo) (cw : CallB R s args own index y bytes maxL ret wd rm 0 0 n ∧ (Cond.static y).before args s = true) (hS : va_S A H0 H locs)
    (hn : As.length = n) (hls : ls.size = nL) (hst : st0 = As.reverse ++ rest) (hR : (rest.map fun v => v.category).sum ≤ 8) (hdg : decode cc pc = .ok (.invokestatic index, 3)) (hcs : cells ≤ R.cells ∧ slots ≤ R.slots)
    (kk : ∀ (H1 : Heap) (locs1 : List Loc), va_S A H0 H1 locs1 → W p l e R s m args below meth c H1 locs1 cells slots Q (F0 m (pc + 3) ls (vo.toList ++ rest))) : W p l e R s m args below meth c H locs cells slots Q (F0 m pc ls st0) := by
  exact zk_call (va_runS (As := As) (rest := rest) (g := F0 m pc ls st0) (H := H) (locs := locs) (cells := cells) (slots := slots) S hM cw ⟨zk_blindS, fun U _ _ => ⟨rfl, trivial⟩⟩ rfl hn hls hst (lv_room hR) hdg hcs) hS (fun q _ z => z.elim) (fun q z => z.elim) (fun t H1 locs1 ht hB _ hk hS1 => kk H1 locs1 hS1)
theorem zk_callSR (S : CallFix p m c cc nL s args Ts own) (hM : zk_MR l y wd rm D cl tys As w vo) (cw : CallB R s args own index y bytes maxL ret wd rm 0 0 n ∧ (Cond.static y).before args s = true) (hK : zk_KX D cl tys s) (hP : va_P D cl w H) (hS : va_S A H0 H locs)
    (hn : As.length = n) (hls : ls.size = nL) (hst : st0 = As.reverse ++ rest) (hR : (rest.map fun v => v.category).sum ≤ 8) (hdg : decode cc pc = .ok (.invokestatic index, 3)) (hcs : cells ≤ R.cells ∧ slots ≤ R.slots)
    (kk : ∀ (H1 : Heap) (locs1 : List Loc), va_P D cl w H1 → va_S A H0 H1 locs1 → W p l e R s m args below meth c H1 locs1 cells slots Q (F0 m (pc + 3) ls (vo.toList ++ rest))) : W p l e R s m args below meth c H locs cells slots Q (F0 m pc ls st0) := by
  exact zk_call (va_runS (As := As) (rest := rest) (g := F0 m pc ls st0) (H := H) (locs := locs) (cells := cells) (slots := slots) S hM cw ⟨zk_blindW, zk_preW hK hP⟩ rfl hn hls hst (lv_room hR) hdg hcs) hS (fun q _ z => z.elim) (fun q z => z.elim) (fun t H1 locs1 ht hB _ hk hS1 => kk H1 locs1 (hP.kept (fun k q hq => hk q.1 (hP k q hq).lt (fun z => z))) hS1)
end CALLS
/-! ends: the answer that the pure side names -/
section ENDS
variable {w : va_W} {B : State → Prop} {ty : FieldType}
theorem zk_iret (hexec : p.tables.exec = Jvm.exec) (hb : c.code = cc) (hr : meth.sig.returnType = some .int) (hlk : meth.locks = false) {x v : Int} (hx : x = v) (hB : ∀ t : State, t.heap = H → B t) (hS : va_S A s.heap H locs) (hdg : decode cc pc = .ok (.ireturn, 1)) :
    W p l e R s m args below meth c H locs cells slots (MQ below (zk_Q (some (zk_I v)) B A) args s cells slots A) (F0 m pc ls [zk_I x]) := by
  subst hx
  exact W.iret hexec hb hr (fun t ht _ => ⟨rfl, hB t ht, hS.F ht⟩) hS.2.2 hdg hlk
theorem zk_zret (hexec : p.tables.exec = Jvm.exec) (hb : c.code = cc) (hr : meth.sig.returnType = some .boolean) (hlk : meth.locks = false) {x v : Int} (hz : x = 0 ∨ x = 1) (hx : x = v) (hB : ∀ t : State, t.heap = H → B t) (hS : va_S A s.heap H locs) (hdg : decode cc pc = .ok (.ireturn, 1)) :
    W p l e R s m args below meth c H locs cells slots (MQ below (zk_Q (some (zk_I v)) B A) args s cells slots A) (F0 m pc ls [zk_I x]) := by
  subst hx
  exact W.zret hexec hb hr (by rcases hz with q | q <;> (rw [q]; rfl)) (fun t ht _ => ⟨rfl, hB t ht, hS.F ht⟩) hS.2.2 hdg hlk
theorem zk_lret (hexec : p.tables.exec = Jvm.exec) (hb : c.code = cc) (hr : meth.sig.returnType = some .long) (hlk : meth.locks = false) {x v : Int} (hx : x = v) (hB : ∀ t : State, t.heap = H → B t) (hS : va_S A s.heap H locs) (hdg : decode cc pc = .ok (.lreturn, 1)) :
    W p l e R s m args below meth c H locs cells slots (MQ below (zk_Q (some (zk_L v)) B A) args s cells slots A) (F0 m pc ls [zk_L x]) := by
  subst hx
  exact W.lret hexec hb hr (fun t ht _ => ⟨rfl, hB t ht, hS.F ht⟩) hS.2.2 hdg hlk
theorem zk_vret (hexec : p.tables.exec = Jvm.exec) (hb : c.code = cc) (hr : meth.sig.returnType = none) (hlk : meth.locks = false) (hB : ∀ t : State, t.heap = H → B t) (hS : va_S A s.heap H locs) (hdg : decode cc pc = .ok (.return_, 1)) :
    W p l e R s m args below meth c H locs cells slots (MQ below (zk_Q none B A) args s cells slots A) (F0 m pc ls []) :=
  W.vret hexec hb hr (fun t ht _ => ⟨rfl, hB t ht, hS.F ht⟩) hS.2.2 hdg hlk
end ENDS
end ZWORLD
/-! starts: what a method's body knows -/
theorem zk_startW {l : Launch} {y : MethodName} {cc : ByteArray} {n : Nat} {ret : Option FieldType} {rm : Room} {vs : List Value} {D : va_G} {cl : List vw_C} {tys : List (ClassId × FieldType)} {w : va_W} {Qc : Array Value → State → Outcome → State → Prop} {mc ms : Nat} {A : Nat → Prop} (hy : plainName y.cls = true) (hlen : (lg_sl vs).length ≤ n)
    (body : ∀ (p : Program) (e : Env) (s : State) (m : MethodId) (below : List Frame) (meth : Method) (c : Code) (H : Heap) (locs : List Loc) (ls : Array Slot), p.tables.exec = Jvm.exec → c.code = cc → meth.sig.returnType = ret → meth.locks = false → c.maxLocals = n → s.vm.findClass y.cls = some m.cls → (∀ w ∈ lw_all, w.before vs.toArray s = true) → zk_KX D cl tys s → va_P D cl w H → va_S A s.heap H locs → lv_has ls n (lv_args 0 vs) →
      W p l e rm s m vs.toArray below meth c H locs 0 0 (MQ below Qc vs.toArray s mc ms A) (F0 m 0 ls [])) : Met l y (ws_ y cc n ret) rm (va_Pc vs (zk_W D cl tys w)) Qc mc ms A := by
  refine Met.ofW (cc := cc) (maxL := n) (ret := ret) hy rfl ?_
  intro p e s m args below meth c s₁ BL hml hv
  obtain ⟨rfl, hP, hK⟩ := hv
  have hts := atoms_spec (ws := ws_ y cc n ret) BL.pre
  rw [lg_entry_eq]
  exact body p e s m below meth c s.heap [] _ BL.exec BL.bytes BL.returns BL.notSynchronized hml (findClass_of_methodNamed BL.named) (fun w h => hts w (List.mem_cons_of_mem _ h)) hK hP va_S.rf (lv_entry vs hlen)
theorem zk_startS {l : Launch} {y : MethodName} {cc : ByteArray} {n : Nat} {ret : Option FieldType} {rm : Room} {vs : List Value} {Qc : Array Value → State → Outcome → State → Prop} {mc ms : Nat} {A : Nat → Prop} (hy : plainName y.cls = true) (hlen : (lg_sl vs).length ≤ n)
    (body : ∀ (p : Program) (e : Env) (s : State) (m : MethodId) (below : List Frame) (meth : Method) (c : Code) (H : Heap) (locs : List Loc) (ls : Array Slot), p.tables.exec = Jvm.exec → c.code = cc → meth.sig.returnType = ret → meth.locks = false → c.maxLocals = n → s.vm.findClass y.cls = some m.cls → (∀ w ∈ lw_all, w.before vs.toArray s = true) → va_S A s.heap H locs → lv_has ls n (lv_args 0 vs) →
      W p l e rm s m vs.toArray below meth c H locs 0 0 (MQ below Qc vs.toArray s mc ms A) (F0 m 0 ls [])) : Met l y (ws_ y cc n ret) rm (va_Pc vs (fun _ => True)) Qc mc ms A := by
  refine Met.ofW (cc := cc) (maxL := n) (ret := ret) hy rfl ?_
  intro p e s m args below meth c s₁ BL hml hv
  obtain ⟨rfl, -⟩ := hv
  have hts := atoms_spec (ws := ws_ y cc n ret) BL.pre
  rw [lg_entry_eq]
  exact body p e s m below meth c s.heap [] _ BL.exec BL.bytes BL.returns BL.notSynchronized hml (findClass_of_methodNamed BL.named) (fun w h => hts w (List.mem_cons_of_mem _ h)) va_S.rf (lv_entry vs hlen)
theorem zk_p1 {β : Type} {x y : Int} {u v : β} (h : (some (x, u) : Option (Int × β)) = some (y, v)) : x = y := (Prod.mk.inj (Option.some.inj h)).1
theorem zk_pB {x y : Int} {u v : ZS} {D : va_G} {cl : List vw_C} {P : ZS → va_W} {H : Heap} (h : (some (x, u) : Option (Int × ZS)) = some (y, v)) (hP : va_P D cl (P u) H) : ∀ t : State, t.heap = H → va_P D cl (P v) t.heap := fun t ht => by
  rw [← (Prod.mk.inj (Option.some.inj h)).2, ht]
  exact hP
theorem zk_01 {c : Prop} [Decidable c] {a b : Int} (ha : a = 0 ∨ a = 1) (hb : b = 0 ∨ b = 1) : (if c then a else b) = 0 ∨ (if c then a else b) = 1 := by
  split
  · exact ha
  · exact hb
theorem zk_l0 {α β γ : Type} {f : α → Option (α ⊕ β)} {a : α} {k : β → Option γ} {r : γ} (h : zk_b (zk_loop 0 f a) k = some r) : False := by cases h
