def zc_fs (b : Nat → Nat → Nat) (σ : ZS) : List Value := [zk_I (σ 0 0), .ref (b 1 0), zk_I (σ 2 0), zk_L (σ 3 0), zk_L (σ 4 0), .ref (b 5 0), .ref (b 6 0), zk_I (σ 7 0), .ref (b 8 0), .ref (b 9 0), zk_I (σ 10 0), zk_I (σ 11 0), zk_I (σ 12 0), .ref (b 13 0), zk_I (σ 14 0), .ref (b 15 0), .ref (b 16 0), .ref (b 17 0), .ref (b 18 0), .ref (b 19 0), zk_I (σ 20 0), zk_I (σ 21 0), zk_I (σ 22 0), zk_I (σ 23 0), zk_L (σ 24 0)]
def zc_q (b : Nat → Nat → Nat) (π : ZS) (K S : Nat) : Nat → Option Nat := fun j => if 0 ≤ π K (j : Int) then some (b S j) else none
def zc_crow (b : Nat → Nat → Nat) (dA : Nat → ClassId) (π σ : ZS) (j : Nat) : va_W := if 0 ≤ π 5 (j : Int) then [(b 100 j, .inl (dA 0, (π 5 (j : Int)).toNat, .inl (zk_f (σ (100 + j)))))] else []
def zc_ctxt (b : Nat → Nat → Nat) (dA : Nat → ClassId) (π σ : ZS) (j : Nat) : va_W := if 0 ≤ π 6 (j : Int) then [(b 200 j, .inl (dA 1, (π 6 (j : Int)).toNat, .inl (zk_f (σ (200 + j)))))] else []
def zc_ckep (b : Nat → Nat → Nat) (dA : Nat → ClassId) (π σ : ZS) (j : Nat) : va_W := if 0 ≤ π 16 (j : Int) then [(b 300 j, .inl (dA 0, (π 16 (j : Int)).toNat, .inl (zk_f (σ (300 + j)))))] else []
def zc_pf (o : Nat) (k : Int) (j : Nat) : List Value := zk_I (j : Int) :: .ref o :: (if k = 0 then [] else if k ≤ 3 then [.ref o] else [.ref o, .ref o])
def zc_cper (o : Nat) (b : Nat → Nat → Nat) (π : ZS) (j : Nat) : va_W := if 0 ≤ π 8 (j : Int) then [(b 400 j, .inr ((π 8 (j : Int)).toNat + 2, zc_pf o (π 8 (j : Int)) j))] else []
def zc_var (o : Nat) (b : Nat → Nat → Nat) (dA : Nat → ClassId) (π σ : ZS) : va_W := zc_crow b dA π σ 0 ++ (zc_crow b dA π σ 1 ++ (zc_crow b dA π σ 2 ++ (zc_crow b dA π σ 3 ++ (zc_crow b dA π σ 4 ++ (zc_crow b dA π σ 5 ++ (zc_ctxt b dA π σ 0 ++ (zc_ctxt b dA π σ 1 ++ (zc_ctxt b dA π σ 2 ++ (zc_ctxt b dA π σ 3 ++ (zc_ckep b dA π σ 0 ++ (zc_ckep b dA π σ 1 ++ (zc_ckep b dA π σ 2 ++ (zc_cper o b π 0 ++ (zc_cper o b π 1 ++ (zc_cper o b π 2 ++ (zc_cper o b π 3 ++ (zc_cper o b π 4 ++ (zc_cper o b π 5))))))))))))))))))
def zc_P (o : Nat) (b : Nat → Nat → Nat) (dA : Nat → ClassId) (π σ : ZS) : va_W := (o, .inr (0, zc_fs b σ)) :: (b 1 0, .inl (dA 0, 6, .inl (zk_f (σ 1)))) :: (b 5 0, .inl (dA 2, 6, .inr (.inr (.inr (.inr (zc_q b π 5 100)))))) :: (b 6 0, .inl (dA 3, 4, .inr (.inr (.inr (.inr (zc_q b π 6 200)))))) :: (b 8 0, .inl (dA 4, 6, .inr (.inr (.inr (.inr (zc_q b π 8 400)))))) :: (b 9 0, .inl (dA 0, 160, .inl (zk_f (σ 9)))) :: (b 13 0, .inl (dA 0, 18, .inl (zk_f (σ 13)))) :: (b 15 0, .inl (dA 0, 800, .inl (zk_f (σ 15)))) :: (b 16 0, .inl (dA 2, 3, .inr (.inr (.inr (.inr (zc_q b π 16 300)))))) :: (b 17 0, .inl (dA 0, 6, .inl (zk_f (σ 17)))) :: (b 18 0, .inl (dA 0, 6, .inl (zk_f (σ 18)))) :: (b 19 0, .inl (dA 0, 7, .inl (zk_f (σ 19)))) :: zc_var o b dA π σ
theorem zc_varc {o : Nat} {b : Nat → Nat → Nat} {dA : Nat → ClassId} {π σ τ : ZS} (h : ∀ k, 100 ≤ k → τ k = σ k) : zc_var o b dA π τ = zc_var o b dA π σ := by
  unfold zc_var zc_crow zc_ctxt zc_ckep
  simp only [Nat.reduceAdd, h 100 (by decide), h 101 (by decide), h 102 (by decide), h 103 (by decide), h 104 (by decide), h 105 (by decide), h 200 (by decide), h 201 (by decide), h 202 (by decide), h 203 (by decide), h 300 (by decide), h 301 (by decide), h 302 (by decide)]
theorem zc_varu {o : Nat} {b : Nat → Nat → Nat} {dA : Nat → ClassId} {π σ : ZS} {k : Nat} {i x : Int} (hk : k < 100) : zc_var o b dA π (zk_u σ k i x) = zc_var o b dA π σ := zc_varc (fun _ h => zk_uk (by omega))
theorem zc_varp {o : Nat} {b : Nat → Nat → Nat} {dA : Nat → ClassId} {π σ : ZS} {ks kd : Nat} {si di n : Int} (hk : kd < 100) : zc_var o b dA π (zk_cp σ ks si kd di n) = zc_var o b dA π σ := zc_varc (fun _ h => zk_cpk (by omega))
theorem zc_s0 {o : Nat} {b : Nat → Nat → Nat} {dA : Nat → ClassId} {π : ZS} (σ : ZS) (x : Int) : (zc_P o b dA π σ).set 0 (o, .inr (0, (zc_fs b σ).set 0 (zk_I x))) = zc_P o b dA π (zk_u σ 0 0 x) := by
  unfold zc_P
  rw [zc_varu (k := 0) (by decide)]
  rfl
theorem zc_t1 {o : Nat} {b : Nat → Nat → Nat} {dA : Nat → ClassId} {π : ZS} (σ : ZS) (i x : Int) : (zc_P o b dA π σ).set 1 (b 1 0, .inl (dA 0, 6, .inl (zk_f (zk_u σ 1 i x 1)))) = zc_P o b dA π (zk_u σ 1 i x) := by
  unfold zc_P
  rw [zc_varu (k := 1) (by decide)]
  rfl
theorem zc_s2 {o : Nat} {b : Nat → Nat → Nat} {dA : Nat → ClassId} {π : ZS} (σ : ZS) (x : Int) : (zc_P o b dA π σ).set 0 (o, .inr (0, (zc_fs b σ).set 2 (zk_I x))) = zc_P o b dA π (zk_u σ 2 0 x) := by
  unfold zc_P
  rw [zc_varu (k := 2) (by decide)]
  rfl
theorem zc_s3 {o : Nat} {b : Nat → Nat → Nat} {dA : Nat → ClassId} {π : ZS} (σ : ZS) (x : Int) : (zc_P o b dA π σ).set 0 (o, .inr (0, (zc_fs b σ).set 3 (zk_L x))) = zc_P o b dA π (zk_u σ 3 0 x) := by
  unfold zc_P
  rw [zc_varu (k := 3) (by decide)]
  rfl
theorem zc_s4 {o : Nat} {b : Nat → Nat → Nat} {dA : Nat → ClassId} {π : ZS} (σ : ZS) (x : Int) : (zc_P o b dA π σ).set 0 (o, .inr (0, (zc_fs b σ).set 4 (zk_L x))) = zc_P o b dA π (zk_u σ 4 0 x) := by
  unfold zc_P
  rw [zc_varu (k := 4) (by decide)]
  rfl
theorem zc_s7 {o : Nat} {b : Nat → Nat → Nat} {dA : Nat → ClassId} {π : ZS} (σ : ZS) (x : Int) : (zc_P o b dA π σ).set 0 (o, .inr (0, (zc_fs b σ).set 7 (zk_I x))) = zc_P o b dA π (zk_u σ 7 0 x) := by
  unfold zc_P
  rw [zc_varu (k := 7) (by decide)]
  rfl
theorem zc_t9 {o : Nat} {b : Nat → Nat → Nat} {dA : Nat → ClassId} {π : ZS} (σ : ZS) (i x : Int) : (zc_P o b dA π σ).set 5 (b 9 0, .inl (dA 0, 160, .inl (zk_f (zk_u σ 9 i x 9)))) = zc_P o b dA π (zk_u σ 9 i x) := by
  unfold zc_P
  rw [zc_varu (k := 9) (by decide)]
  rfl
theorem zc_s10 {o : Nat} {b : Nat → Nat → Nat} {dA : Nat → ClassId} {π : ZS} (σ : ZS) (x : Int) : (zc_P o b dA π σ).set 0 (o, .inr (0, (zc_fs b σ).set 10 (zk_I x))) = zc_P o b dA π (zk_u σ 10 0 x) := by
  unfold zc_P
  rw [zc_varu (k := 10) (by decide)]
  rfl
theorem zc_s11 {o : Nat} {b : Nat → Nat → Nat} {dA : Nat → ClassId} {π : ZS} (σ : ZS) (x : Int) : (zc_P o b dA π σ).set 0 (o, .inr (0, (zc_fs b σ).set 11 (zk_I x))) = zc_P o b dA π (zk_u σ 11 0 x) := by
  unfold zc_P
  rw [zc_varu (k := 11) (by decide)]
  rfl
theorem zc_s12 {o : Nat} {b : Nat → Nat → Nat} {dA : Nat → ClassId} {π : ZS} (σ : ZS) (x : Int) : (zc_P o b dA π σ).set 0 (o, .inr (0, (zc_fs b σ).set 12 (zk_I x))) = zc_P o b dA π (zk_u σ 12 0 x) := by
  unfold zc_P
  rw [zc_varu (k := 12) (by decide)]
  rfl
theorem zc_t13 {o : Nat} {b : Nat → Nat → Nat} {dA : Nat → ClassId} {π : ZS} (σ : ZS) (i x : Int) : (zc_P o b dA π σ).set 6 (b 13 0, .inl (dA 0, 18, .inl (zk_f (zk_u σ 13 i x 13)))) = zc_P o b dA π (zk_u σ 13 i x) := by
  unfold zc_P
  rw [zc_varu (k := 13) (by decide)]
  rfl
theorem zc_s14 {o : Nat} {b : Nat → Nat → Nat} {dA : Nat → ClassId} {π : ZS} (σ : ZS) (x : Int) : (zc_P o b dA π σ).set 0 (o, .inr (0, (zc_fs b σ).set 14 (zk_I x))) = zc_P o b dA π (zk_u σ 14 0 x) := by
  unfold zc_P
  rw [zc_varu (k := 14) (by decide)]
  rfl
theorem zc_t15 {o : Nat} {b : Nat → Nat → Nat} {dA : Nat → ClassId} {π : ZS} (σ : ZS) (i x : Int) : (zc_P o b dA π σ).set 7 (b 15 0, .inl (dA 0, 800, .inl (zk_f (zk_u σ 15 i x 15)))) = zc_P o b dA π (zk_u σ 15 i x) := by
  unfold zc_P
  rw [zc_varu (k := 15) (by decide)]
  rfl
theorem zc_t17 {o : Nat} {b : Nat → Nat → Nat} {dA : Nat → ClassId} {π : ZS} (σ : ZS) (i x : Int) : (zc_P o b dA π σ).set 9 (b 17 0, .inl (dA 0, 6, .inl (zk_f (zk_u σ 17 i x 17)))) = zc_P o b dA π (zk_u σ 17 i x) := by
  unfold zc_P
  rw [zc_varu (k := 17) (by decide)]
  rfl
theorem zc_t18 {o : Nat} {b : Nat → Nat → Nat} {dA : Nat → ClassId} {π : ZS} (σ : ZS) (i x : Int) : (zc_P o b dA π σ).set 10 (b 18 0, .inl (dA 0, 6, .inl (zk_f (zk_u σ 18 i x 18)))) = zc_P o b dA π (zk_u σ 18 i x) := by
  unfold zc_P
  rw [zc_varu (k := 18) (by decide)]
  rfl
theorem zc_t19 {o : Nat} {b : Nat → Nat → Nat} {dA : Nat → ClassId} {π : ZS} (σ : ZS) (i x : Int) : (zc_P o b dA π σ).set 11 (b 19 0, .inl (dA 0, 7, .inl (zk_f (zk_u σ 19 i x 19)))) = zc_P o b dA π (zk_u σ 19 i x) := by
  unfold zc_P
  rw [zc_varu (k := 19) (by decide)]
  rfl
theorem zc_s20 {o : Nat} {b : Nat → Nat → Nat} {dA : Nat → ClassId} {π : ZS} (σ : ZS) (x : Int) : (zc_P o b dA π σ).set 0 (o, .inr (0, (zc_fs b σ).set 20 (zk_I x))) = zc_P o b dA π (zk_u σ 20 0 x) := by
  unfold zc_P
  rw [zc_varu (k := 20) (by decide)]
  rfl
theorem zc_s21 {o : Nat} {b : Nat → Nat → Nat} {dA : Nat → ClassId} {π : ZS} (σ : ZS) (x : Int) : (zc_P o b dA π σ).set 0 (o, .inr (0, (zc_fs b σ).set 21 (zk_I x))) = zc_P o b dA π (zk_u σ 21 0 x) := by
  unfold zc_P
  rw [zc_varu (k := 21) (by decide)]
  rfl
theorem zc_s22 {o : Nat} {b : Nat → Nat → Nat} {dA : Nat → ClassId} {π : ZS} (σ : ZS) (x : Int) : (zc_P o b dA π σ).set 0 (o, .inr (0, (zc_fs b σ).set 22 (zk_I x))) = zc_P o b dA π (zk_u σ 22 0 x) := by
  unfold zc_P
  rw [zc_varu (k := 22) (by decide)]
  rfl
theorem zc_s23 {o : Nat} {b : Nat → Nat → Nat} {dA : Nat → ClassId} {π : ZS} (σ : ZS) (x : Int) : (zc_P o b dA π σ).set 0 (o, .inr (0, (zc_fs b σ).set 23 (zk_I x))) = zc_P o b dA π (zk_u σ 23 0 x) := by
  unfold zc_P
  rw [zc_varu (k := 23) (by decide)]
  rfl
theorem zc_s24 {o : Nat} {b : Nat → Nat → Nat} {dA : Nat → ClassId} {π : ZS} (σ : ZS) (x : Int) : (zc_P o b dA π σ).set 0 (o, .inr (0, (zc_fs b σ).set 24 (zk_L x))) = zc_P o b dA π (zk_u σ 24 0 x) := by
  unfold zc_P
  rw [zc_varu (k := 24) (by decide)]
  rfl
theorem zc_c9_9 {o : Nat} {b : Nat → Nat → Nat} {dA : Nat → ClassId} {π : ZS} (σ : ZS) (si di n : Int) : (zc_P o b dA π σ).set 5 (b 9 0, .inl (dA 0, 160, .inl (zk_f (zk_cp σ 9 si 9 di n 9)))) = zc_P o b dA π (zk_cp σ 9 si 9 di n) := by
  unfold zc_P
  rw [zc_varp (kd := 9) (by decide)]
  rfl
theorem zc_c9_15 {o : Nat} {b : Nat → Nat → Nat} {dA : Nat → ClassId} {π : ZS} (σ : ZS) (si di n : Int) : (zc_P o b dA π σ).set 7 (b 15 0, .inl (dA 0, 800, .inl (zk_f (zk_cp σ 9 si 15 di n 15)))) = zc_P o b dA π (zk_cp σ 9 si 15 di n) := by
  unfold zc_P
  rw [zc_varp (kd := 15) (by decide)]
  rfl
theorem zc_c15_9 {o : Nat} {b : Nat → Nat → Nat} {dA : Nat → ClassId} {π : ZS} (σ : ZS) (si di n : Int) : (zc_P o b dA π σ).set 5 (b 9 0, .inl (dA 0, 160, .inl (zk_f (zk_cp σ 15 si 9 di n 9)))) = zc_P o b dA π (zk_cp σ 15 si 9 di n) := by
  unfold zc_P
  rw [zc_varp (kd := 9) (by decide)]
  rfl
theorem zc_c17_18 {o : Nat} {b : Nat → Nat → Nat} {dA : Nat → ClassId} {π : ZS} (σ : ZS) (si di n : Int) : (zc_P o b dA π σ).set 10 (b 18 0, .inl (dA 0, 6, .inl (zk_f (zk_cp σ 17 si 18 di n 18)))) = zc_P o b dA π (zk_cp σ 17 si 18 di n) := by
  unfold zc_P
  rw [zc_varp (kd := 18) (by decide)]
  rfl
theorem zc_cK_9 {o : Nat} {b : Nat → Nat → Nat} {dA : Nat → ClassId} {π : ZS} (σ : ZS) (K : Nat) (si di n : Int) : (zc_P o b dA π σ).set 5 (b 9 0, .inl (dA 0, 160, .inl (zk_f (zk_cp σ K si 9 di n 9)))) = zc_P o b dA π (zk_cp σ K si 9 di n) := by
  unfold zc_P
  rw [zc_varp (kd := 9) (by decide)]
  rfl
theorem zc_cK_15 {o : Nat} {b : Nat → Nat → Nat} {dA : Nat → ClassId} {π : ZS} (σ : ZS) (K : Nat) (si di n : Int) : (zc_P o b dA π σ).set 7 (b 15 0, .inl (dA 0, 800, .inl (zk_f (zk_cp σ K si 15 di n 15)))) = zc_P o b dA π (zk_cp σ K si 15 di n) := by
  unfold zc_P
  rw [zc_varp (kd := 15) (by decide)]
  rfl
theorem zc_own (k : Nat) : (TX0 k).1 = RX0 := by unfold TX0; split <;> rfl
/-- where the cells that come and go lie -/
theorem zc_memv {o : Nat} {b : Nat → Nat → Nat} {dA : Nat → ClassId} {π σ : ZS} {q : Nat × va_E} (h : q ∈ zc_var o b dA π σ) : ∃ k : Nat, (zc_P o b dA π σ)[k]? = some q := List.getElem?_of_mem (by unfold zc_P; exact List.mem_cons_of_mem _ (List.mem_cons_of_mem _ (List.mem_cons_of_mem _ (List.mem_cons_of_mem _ (List.mem_cons_of_mem _ (List.mem_cons_of_mem _ (List.mem_cons_of_mem _ (List.mem_cons_of_mem _ (List.mem_cons_of_mem _ (List.mem_cons_of_mem _ (List.mem_cons_of_mem _ (List.mem_cons_of_mem _ h))))))))))))
theorem zc_at5 {o : Nat} {b : Nat → Nat → Nat} {dA : Nat → ClassId} {π σ : ZS} {r : Int} (h : (0 ≤ r ∧ r < 6) ∧ 0 ≤ π 5 r) : ∃ k : Nat, (zc_P o b dA π σ)[k]? = some (b 100 r.toNat, .inl (dA 0, (π 5 r).toNat, .inl (zk_f (σ (100 + r.toNat))))) := by
  obtain ⟨⟨h0, h1⟩, h2⟩ := h
  obtain ⟨j, rfl⟩ : ∃ j : Nat, r = (j : Int) := ⟨r.toNat, (zk_toNat h0).symm⟩
  apply zc_memv
  have hj : j < 6 := by omega
  rw [Int.toNat_natCast]
  unfold zc_var
  have hm : (b 100 j, .inl (dA 0, (π 5 (j : Int)).toNat, .inl (zk_f (σ (100 + j))))) ∈ zc_crow b dA π σ j := by unfold zc_crow; rw [if_pos h2]; exact List.mem_singleton.mpr rfl
  match j, hj, hm with
  | 0, _, hm => exact List.mem_append_left _ hm
  | 1, _, hm => exact List.mem_append_right _ (List.mem_append_left _ hm)
  | 2, _, hm => exact List.mem_append_right _ (List.mem_append_right _ (List.mem_append_left _ hm))
  | 3, _, hm => exact List.mem_append_right _ (List.mem_append_right _ (List.mem_append_right _ (List.mem_append_left _ hm)))
  | 4, _, hm => exact List.mem_append_right _ (List.mem_append_right _ (List.mem_append_right _ (List.mem_append_right _ (List.mem_append_left _ hm))))
  | 5, _, hm => exact List.mem_append_right _ (List.mem_append_right _ (List.mem_append_right _ (List.mem_append_right _ (List.mem_append_right _ (List.mem_append_left _ hm)))))
theorem zc_at6 {o : Nat} {b : Nat → Nat → Nat} {dA : Nat → ClassId} {π σ : ZS} {r : Int} (h : (0 ≤ r ∧ r < 4) ∧ 0 ≤ π 6 r) : ∃ k : Nat, (zc_P o b dA π σ)[k]? = some (b 200 r.toNat, .inl (dA 1, (π 6 r).toNat, .inl (zk_f (σ (200 + r.toNat))))) := by
  obtain ⟨⟨h0, h1⟩, h2⟩ := h
  obtain ⟨j, rfl⟩ : ∃ j : Nat, r = (j : Int) := ⟨r.toNat, (zk_toNat h0).symm⟩
  apply zc_memv
  have hj : j < 4 := by omega
  rw [Int.toNat_natCast]
  unfold zc_var
  have hm : (b 200 j, .inl (dA 1, (π 6 (j : Int)).toNat, .inl (zk_f (σ (200 + j))))) ∈ zc_ctxt b dA π σ j := by unfold zc_ctxt; rw [if_pos h2]; exact List.mem_singleton.mpr rfl
  match j, hj, hm with
  | 0, _, hm => exact List.mem_append_right _ (List.mem_append_right _ (List.mem_append_right _ (List.mem_append_right _ (List.mem_append_right _ (List.mem_append_right _ (List.mem_append_left _ hm))))))
  | 1, _, hm => exact List.mem_append_right _ (List.mem_append_right _ (List.mem_append_right _ (List.mem_append_right _ (List.mem_append_right _ (List.mem_append_right _ (List.mem_append_right _ (List.mem_append_left _ hm)))))))
  | 2, _, hm => exact List.mem_append_right _ (List.mem_append_right _ (List.mem_append_right _ (List.mem_append_right _ (List.mem_append_right _ (List.mem_append_right _ (List.mem_append_right _ (List.mem_append_right _ (List.mem_append_left _ hm))))))))
  | 3, _, hm => exact List.mem_append_right _ (List.mem_append_right _ (List.mem_append_right _ (List.mem_append_right _ (List.mem_append_right _ (List.mem_append_right _ (List.mem_append_right _ (List.mem_append_right _ (List.mem_append_right _ (List.mem_append_left _ hm)))))))))
theorem zc_at16 {o : Nat} {b : Nat → Nat → Nat} {dA : Nat → ClassId} {π σ : ZS} {r : Int} (h : (0 ≤ r ∧ r < 3) ∧ 0 ≤ π 16 r) : ∃ k : Nat, (zc_P o b dA π σ)[k]? = some (b 300 r.toNat, .inl (dA 0, (π 16 r).toNat, .inl (zk_f (σ (300 + r.toNat))))) := by
  obtain ⟨⟨h0, h1⟩, h2⟩ := h
  obtain ⟨j, rfl⟩ : ∃ j : Nat, r = (j : Int) := ⟨r.toNat, (zk_toNat h0).symm⟩
  apply zc_memv
  have hj : j < 3 := by omega
  rw [Int.toNat_natCast]
  unfold zc_var
  have hm : (b 300 j, .inl (dA 0, (π 16 (j : Int)).toNat, .inl (zk_f (σ (300 + j))))) ∈ zc_ckep b dA π σ j := by unfold zc_ckep; rw [if_pos h2]; exact List.mem_singleton.mpr rfl
  match j, hj, hm with
  | 0, _, hm => exact List.mem_append_right _ (List.mem_append_right _ (List.mem_append_right _ (List.mem_append_right _ (List.mem_append_right _ (List.mem_append_right _ (List.mem_append_right _ (List.mem_append_right _ (List.mem_append_right _ (List.mem_append_right _ (List.mem_append_left _ hm))))))))))
  | 1, _, hm => exact List.mem_append_right _ (List.mem_append_right _ (List.mem_append_right _ (List.mem_append_right _ (List.mem_append_right _ (List.mem_append_right _ (List.mem_append_right _ (List.mem_append_right _ (List.mem_append_right _ (List.mem_append_right _ (List.mem_append_right _ (List.mem_append_left _ hm)))))))))))
  | 2, _, hm => exact List.mem_append_right _ (List.mem_append_right _ (List.mem_append_right _ (List.mem_append_right _ (List.mem_append_right _ (List.mem_append_right _ (List.mem_append_right _ (List.mem_append_right _ (List.mem_append_right _ (List.mem_append_right _ (List.mem_append_right _ (List.mem_append_right _ (List.mem_append_left _ hm))))))))))))
theorem zc_at8 {o : Nat} {b : Nat → Nat → Nat} {dA : Nat → ClassId} {π σ : ZS} {r : Int} (h : (0 ≤ r ∧ r < 6) ∧ 0 ≤ π 8 r) : ∃ k : Nat, (zc_P o b dA π σ)[k]? = some (b 400 r.toNat, .inr ((π 8 r).toNat + 2, zc_pf o (π 8 r) r.toNat)) := by
  obtain ⟨⟨h0, h1⟩, h2⟩ := h
  obtain ⟨j, rfl⟩ : ∃ j : Nat, r = (j : Int) := ⟨r.toNat, (zk_toNat h0).symm⟩
  apply zc_memv
  have hj : j < 6 := by omega
  rw [Int.toNat_natCast]
  unfold zc_var
  have hm : (b 400 j, .inr ((π 8 (j : Int)).toNat + 2, zc_pf o (π 8 (j : Int)) j)) ∈ zc_cper o b π j := by unfold zc_cper; rw [if_pos h2]; exact List.mem_singleton.mpr rfl
  match j, hj, hm with
  | 0, _, hm => exact List.mem_append_right _ (List.mem_append_right _ (List.mem_append_right _ (List.mem_append_right _ (List.mem_append_right _ (List.mem_append_right _ (List.mem_append_right _ (List.mem_append_right _ (List.mem_append_right _ (List.mem_append_right _ (List.mem_append_right _ (List.mem_append_right _ (List.mem_append_right _ (List.mem_append_left _ hm)))))))))))))
  | 1, _, hm => exact List.mem_append_right _ (List.mem_append_right _ (List.mem_append_right _ (List.mem_append_right _ (List.mem_append_right _ (List.mem_append_right _ (List.mem_append_right _ (List.mem_append_right _ (List.mem_append_right _ (List.mem_append_right _ (List.mem_append_right _ (List.mem_append_right _ (List.mem_append_right _ (List.mem_append_right _ (List.mem_append_left _ hm))))))))))))))
  | 2, _, hm => exact List.mem_append_right _ (List.mem_append_right _ (List.mem_append_right _ (List.mem_append_right _ (List.mem_append_right _ (List.mem_append_right _ (List.mem_append_right _ (List.mem_append_right _ (List.mem_append_right _ (List.mem_append_right _ (List.mem_append_right _ (List.mem_append_right _ (List.mem_append_right _ (List.mem_append_right _ (List.mem_append_right _ (List.mem_append_left _ hm)))))))))))))))
  | 3, _, hm => exact List.mem_append_right _ (List.mem_append_right _ (List.mem_append_right _ (List.mem_append_right _ (List.mem_append_right _ (List.mem_append_right _ (List.mem_append_right _ (List.mem_append_right _ (List.mem_append_right _ (List.mem_append_right _ (List.mem_append_right _ (List.mem_append_right _ (List.mem_append_right _ (List.mem_append_right _ (List.mem_append_right _ (List.mem_append_right _ (List.mem_append_left _ hm))))))))))))))))
  | 4, _, hm => exact List.mem_append_right _ (List.mem_append_right _ (List.mem_append_right _ (List.mem_append_right _ (List.mem_append_right _ (List.mem_append_right _ (List.mem_append_right _ (List.mem_append_right _ (List.mem_append_right _ (List.mem_append_right _ (List.mem_append_right _ (List.mem_append_right _ (List.mem_append_right _ (List.mem_append_right _ (List.mem_append_right _ (List.mem_append_right _ (List.mem_append_right _ (List.mem_append_left _ hm)))))))))))))))))
  | 5, _, hm => exact List.mem_append_right _ (List.mem_append_right _ (List.mem_append_right _ (List.mem_append_right _ (List.mem_append_right _ (List.mem_append_right _ (List.mem_append_right _ (List.mem_append_right _ (List.mem_append_right _ (List.mem_append_right _ (List.mem_append_right _ (List.mem_append_right _ (List.mem_append_right _ (List.mem_append_right _ (List.mem_append_right _ (List.mem_append_right _ (List.mem_append_right _ (List.mem_append_right _ (hm))))))))))))))))))
section ZC
variable {p : Program} {l : Launch} {e : Env} {R : Room} {s : State} {m : MethodId} {args : Array Value} {below : List Frame} {meth : Method} {c : Code} {H : Heap} {locs : List Loc} {cells slots : Nat} {Q : State → Prop}
variable {cc : ByteArray} {pc : Nat} {ls : Array Slot} {rest : List Value} {D : va_G} {A : Nat → Prop} {H0 : Heap} {π σ : ZS} {o : Nat} {b : Nat → Nat → Nat} {dA : Nat → ClassId} {α : Type} {X : ZS → Option α} {Y Z : Option α} {r : α}
theorem zc_rget {tys : List (ClassId × FieldType)} (hexec : p.tables.exec = Jvm.exec) (hb : c.code = cc) (hts : ∀ w ∈ lw_all, w.before args s = true) (hown : s.vm.findClass RX0 = some m.cls) (hK : va_K D zk_cl tys s) (hP : va_P D zk_cl (zc_P o b dA π σ) H) (k : Nat) {v : Value} {index : Nat} (hk : k < 25) (hq : Cond.fieldLink RX0 index RX0 (TX0 k).2.1 (TX0 k).2.2.1 ∈ lw_all) (hv : (zc_fs b σ)[k]? = some v) (hdg : decode cc pc = .ok (.getfield index, 3))
    (kk : W p l e R s m args below meth c H locs cells slots Q (F0 m (pc + 3) ls (v :: rest))) : W p l e R s m args below meth c H locs cells slots Q (F0 m pc ls (.ref o :: rest)) :=
  va_get hexec hb hts in_X0 hown hK hP 0 (fs := zc_fs b σ) (ci := 0) rfl rfl k hk (hts _ hq) (fun x h => by rw [show (TX0 k).1 = RX0 from zc_own k] at h; exact h) hv hdg kk
theorem zc_rput {tys : List (ClassId × FieldType)} (hexec : p.tables.exec = Jvm.exec) (hb : c.code = cc) (hts : ∀ w ∈ lw_all, w.before args s = true) (hown : s.vm.findClass RX0 = some m.cls) (hK : va_K D zk_cl tys s) (hP : va_P D zk_cl (zc_P o b dA π σ) H) (hD : ∀ τ, va_D A (zc_P o b dA π τ)) (hS : va_S A H0 H locs) (k : Nat) {x : Int} {v : Value} {index : Nat} (hk : k < 25) (hq : Cond.fieldLink RX0 index RX0 (TX0 k).2.1 (TX0 k).2.2.1 ∈ lw_all)
    (hfin : (TX0 k).2.2.2 = false) (hn : narrow (tyX0 k) v = v) (hfit : fits (tyX0 k) v = true) (hset : (zc_P o b dA π σ).set 0 (o, .inr (0, (zc_fs b σ).set k v)) = zc_P o b dA π (zk_u σ k 0 x)) (hf : zk_n (zk_u σ k 0 x) X = some r) (hdg : decode cc pc = .ok (.putfield index, 3))
    (kk : ∀ (s1 : ZS) (H1 : Heap) (locs1 : List Loc), X s1 = some r → va_P D zk_cl (zc_P o b dA π s1) H1 → va_S A H0 H1 locs1 → W p l e R s m args below meth c H1 locs1 cells slots Q (F0 m (pc + 3) ls rest)) : W p l e R s m args below meth c H locs cells slots Q (F0 m pc ls (v :: .ref o :: rest)) :=
  va_put hexec hb hts in_X0 tyX0 tyX0_ok nmX0 hown hK hP (hD σ) hS 0 (fs := zc_fs b σ) (ci := 0) rfl rfl k hk (hts _ hq) (fun x h => by rw [show (TX0 k).1 = RX0 from zc_own k] at h; exact h) hfin (tyX0_ok k hk) hn hfit hk hdg
    (fun H1 locs1 hP1 _ hS1 => kk _ H1 locs1 hf (by rw [← hset]; exact hP1) hS1)
theorem zc_ald5 (hexec : p.tables.exec = Jvm.exec) (hb : c.code = cc) (hK : va_K D zk_cl (zk_ty dA) s) (hP : va_P D zk_cl (zc_P o b dA π σ) H) {k i : Int} (hf : zk_g ((0 ≤ k ∧ k < 6) ∧ (0 ≤ i ∧ i < π 5 k) ∧ i ≤ 2147483647) Y = some r) (hdg : decode cc pc = .ok (.iaload, 1))
    (kk : Y = some r → W p l e R s m args below meth c H locs cells slots Q (F0 m (pc + 1) ls (zk_I (σ (100 + k.toNat) i) :: rest))) : W p l e R s m args below meth c H locs cells slots Q (F0 m pc ls (zk_I i :: .ref (b 100 k.toNat) :: rest)) := by
  obtain ⟨⟨h1, h2, h3⟩, hf⟩ := zk_gs hf
  obtain ⟨q, hq⟩ := zc_at5 (o := o) (b := b) (dA := dA) (π := π) (σ := σ) (r := k) ⟨h1, by omega⟩
  refine va_iald hexec hb hK hP q 0 hq rfl (zk_in (by omega) h3) hdg ?_
  rw [zk_fc (by omega)]
  exact kk hf
theorem zc_ald6 (hexec : p.tables.exec = Jvm.exec) (hb : c.code = cc) (hK : va_K D zk_cl (zk_ty dA) s) (hP : va_P D zk_cl (zc_P o b dA π σ) H) {k i : Int} (hf : zk_g ((0 ≤ k ∧ k < 4) ∧ (0 ≤ i ∧ i < π 6 k) ∧ i ≤ 2147483647) Y = some r) (hdg : decode cc pc = .ok (.baload, 1))
    (kk : Y = some r → W p l e R s m args below meth c H locs cells slots Q (F0 m (pc + 1) ls (zk_I (σ (200 + k.toNat) i) :: rest))) : W p l e R s m args below meth c H locs cells slots Q (F0 m pc ls (zk_I i :: .ref (b 200 k.toNat) :: rest)) := by
  obtain ⟨⟨h1, h2, h3⟩, hf⟩ := zk_gs hf
  obtain ⟨q, hq⟩ := zc_at6 (o := o) (b := b) (dA := dA) (π := π) (σ := σ) (r := k) ⟨h1, by omega⟩
  refine va_bald hexec hb hK hP q 1 hq rfl (zk_in (by omega) h3) hdg ?_
  rw [zk_fc (by omega)]
  exact kk hf
theorem zc_ald16 (hexec : p.tables.exec = Jvm.exec) (hb : c.code = cc) (hK : va_K D zk_cl (zk_ty dA) s) (hP : va_P D zk_cl (zc_P o b dA π σ) H) {k i : Int} (hf : zk_g ((0 ≤ k ∧ k < 3) ∧ (0 ≤ i ∧ i < π 16 k) ∧ i ≤ 2147483647) Y = some r) (hdg : decode cc pc = .ok (.iaload, 1))
    (kk : Y = some r → W p l e R s m args below meth c H locs cells slots Q (F0 m (pc + 1) ls (zk_I (σ (300 + k.toNat) i) :: rest))) : W p l e R s m args below meth c H locs cells slots Q (F0 m pc ls (zk_I i :: .ref (b 300 k.toNat) :: rest)) := by
  obtain ⟨⟨h1, h2, h3⟩, hf⟩ := zk_gs hf
  obtain ⟨q, hq⟩ := zc_at16 (o := o) (b := b) (dA := dA) (π := π) (σ := σ) (r := k) ⟨h1, by omega⟩
  refine va_iald hexec hb hK hP q 0 hq rfl (zk_in (by omega) h3) hdg ?_
  rw [zk_fc (by omega)]
  exact kk hf
theorem zc_len5 (hexec : p.tables.exec = Jvm.exec) (hb : c.code = cc) (hK : va_K D zk_cl (zk_ty dA) s) (hP : va_P D zk_cl (zc_P o b dA π σ) H) {k : Int} (hf : zk_g ((0 ≤ k ∧ k < 6) ∧ 0 ≤ π 5 k) Y = some r) (hdg : decode cc pc = .ok (.arraylength, 1))
    (kk : Y = some r → W p l e R s m args below meth c H locs cells slots Q (F0 m (pc + 1) ls (zk_I (π 5 k) :: rest))) : W p l e R s m args below meth c H locs cells slots Q (F0 m pc ls (.ref (b 100 k.toNat) :: rest)) := by
  obtain ⟨h1, hf⟩ := zk_gs hf
  obtain ⟨q, hq⟩ := zc_at5 (o := o) (b := b) (dA := dA) (π := π) (σ := σ) (r := k) h1
  exact va_alen (v := Int32.ofInt (π 5 k)) hexec hb hK hP q 0 hq rfl (zk_ofN h1.2) hdg (kk hf)
theorem zc_len6 (hexec : p.tables.exec = Jvm.exec) (hb : c.code = cc) (hK : va_K D zk_cl (zk_ty dA) s) (hP : va_P D zk_cl (zc_P o b dA π σ) H) {k : Int} (hf : zk_g ((0 ≤ k ∧ k < 4) ∧ 0 ≤ π 6 k) Y = some r) (hdg : decode cc pc = .ok (.arraylength, 1))
    (kk : Y = some r → W p l e R s m args below meth c H locs cells slots Q (F0 m (pc + 1) ls (zk_I (π 6 k) :: rest))) : W p l e R s m args below meth c H locs cells slots Q (F0 m pc ls (.ref (b 200 k.toNat) :: rest)) := by
  obtain ⟨h1, hf⟩ := zk_gs hf
  obtain ⟨q, hq⟩ := zc_at6 (o := o) (b := b) (dA := dA) (π := π) (σ := σ) (r := k) h1
  exact va_alen (v := Int32.ofInt (π 6 k)) hexec hb hK hP q 1 hq rfl (zk_ofN h1.2) hdg (kk hf)
theorem zc_len16 (hexec : p.tables.exec = Jvm.exec) (hb : c.code = cc) (hK : va_K D zk_cl (zk_ty dA) s) (hP : va_P D zk_cl (zc_P o b dA π σ) H) {k : Int} (hf : zk_g ((0 ≤ k ∧ k < 3) ∧ 0 ≤ π 16 k) Y = some r) (hdg : decode cc pc = .ok (.arraylength, 1))
    (kk : Y = some r → W p l e R s m args below meth c H locs cells slots Q (F0 m (pc + 1) ls (zk_I (π 16 k) :: rest))) : W p l e R s m args below meth c H locs cells slots Q (F0 m pc ls (.ref (b 300 k.toNat) :: rest)) := by
  obtain ⟨h1, hf⟩ := zk_gs hf
  obtain ⟨q, hq⟩ := zc_at16 (o := o) (b := b) (dA := dA) (π := π) (σ := σ) (r := k) h1
  exact va_alen (v := Int32.ofInt (π 16 k)) hexec hb hK hP q 0 hq rfl (zk_ofN h1.2) hdg (kk hf)
theorem zc_aald5 (hexec : p.tables.exec = Jvm.exec) (hb : c.code = cc) (hK : va_K D zk_cl (zk_ty dA) s) (hP : va_P D zk_cl (zc_P o b dA π σ) H) {i : Int} (hf : zk_g (0 ≤ i ∧ i < 6) (if 0 ≤ π 5 i then Y else Z) = some r) (hdg : decode cc pc = .ok (.aaload, 1))
    (kt : Y = some r → W p l e R s m args below meth c H locs cells slots Q (F0 m (pc + 1) ls (.ref (b 100 i.toNat) :: rest))) (kf : Z = some r → W p l e R s m args below meth c H locs cells slots Q (F0 m (pc + 1) ls (.null :: rest))) : W p l e R s m args below meth c H locs cells slots Q (F0 m pc ls (zk_I i :: .ref (b 5 0) :: rest)) := by
  obtain ⟨h1, hf⟩ := zk_gs hf
  have hf := zk_ifs hf
  refine zk_aald hexec hb hK hP 2 2 rfl rfl rfl (zk_in (n := 6) (by omega) (by omega)) hdg ?_
  by_cases hp : 0 ≤ π 5 i
  · rw [show zc_q b π 5 100 (Int32.ofInt i).toNatClampNeg = some (b 100 i.toNat) from by rw [zk_cln (by omega)]; unfold zc_q; rw [zk_toNat h1.1, if_pos hp]]
    exact kt (hf.1 hp)
  · rw [show zc_q b π 5 100 (Int32.ofInt i).toNatClampNeg = none from by rw [zk_cln (by omega)]; unfold zc_q; rw [zk_toNat h1.1, if_neg hp]]
    exact kf (hf.2 hp)
theorem zc_aaldP5 (hexec : p.tables.exec = Jvm.exec) (hb : c.code = cc) (hK : va_K D zk_cl (zk_ty dA) s) (hP : va_P D zk_cl (zc_P o b dA π σ) H) {i : Int} (hf : zk_g ((0 ≤ i ∧ i < 6) ∧ 0 ≤ π 5 i) Y = some r) (hdg : decode cc pc = .ok (.aaload, 1))
    (kt : Y = some r → W p l e R s m args below meth c H locs cells slots Q (F0 m (pc + 1) ls (.ref (b 100 i.toNat) :: rest))) : W p l e R s m args below meth c H locs cells slots Q (F0 m pc ls (zk_I i :: .ref (b 5 0) :: rest)) := by
  obtain ⟨⟨h1, hp⟩, hf⟩ := zk_gs hf
  exact zc_aald5 (Y := Y) (Z := none) hexec hb hK hP (by rw [zk_gp h1, if_pos hp]; exact hf) hdg kt (fun h => by cases h)
theorem zc_aald6 (hexec : p.tables.exec = Jvm.exec) (hb : c.code = cc) (hK : va_K D zk_cl (zk_ty dA) s) (hP : va_P D zk_cl (zc_P o b dA π σ) H) {i : Int} (hf : zk_g (0 ≤ i ∧ i < 4) (if 0 ≤ π 6 i then Y else Z) = some r) (hdg : decode cc pc = .ok (.aaload, 1))
    (kt : Y = some r → W p l e R s m args below meth c H locs cells slots Q (F0 m (pc + 1) ls (.ref (b 200 i.toNat) :: rest))) (kf : Z = some r → W p l e R s m args below meth c H locs cells slots Q (F0 m (pc + 1) ls (.null :: rest))) : W p l e R s m args below meth c H locs cells slots Q (F0 m pc ls (zk_I i :: .ref (b 6 0) :: rest)) := by
  obtain ⟨h1, hf⟩ := zk_gs hf
  have hf := zk_ifs hf
  refine zk_aald hexec hb hK hP 3 3 rfl rfl rfl (zk_in (n := 4) (by omega) (by omega)) hdg ?_
  by_cases hp : 0 ≤ π 6 i
  · rw [show zc_q b π 6 200 (Int32.ofInt i).toNatClampNeg = some (b 200 i.toNat) from by rw [zk_cln (by omega)]; unfold zc_q; rw [zk_toNat h1.1, if_pos hp]]
    exact kt (hf.1 hp)
  · rw [show zc_q b π 6 200 (Int32.ofInt i).toNatClampNeg = none from by rw [zk_cln (by omega)]; unfold zc_q; rw [zk_toNat h1.1, if_neg hp]]
    exact kf (hf.2 hp)
theorem zc_aaldP6 (hexec : p.tables.exec = Jvm.exec) (hb : c.code = cc) (hK : va_K D zk_cl (zk_ty dA) s) (hP : va_P D zk_cl (zc_P o b dA π σ) H) {i : Int} (hf : zk_g ((0 ≤ i ∧ i < 4) ∧ 0 ≤ π 6 i) Y = some r) (hdg : decode cc pc = .ok (.aaload, 1))
    (kt : Y = some r → W p l e R s m args below meth c H locs cells slots Q (F0 m (pc + 1) ls (.ref (b 200 i.toNat) :: rest))) : W p l e R s m args below meth c H locs cells slots Q (F0 m pc ls (zk_I i :: .ref (b 6 0) :: rest)) := by
  obtain ⟨⟨h1, hp⟩, hf⟩ := zk_gs hf
  exact zc_aald6 (Y := Y) (Z := none) hexec hb hK hP (by rw [zk_gp h1, if_pos hp]; exact hf) hdg kt (fun h => by cases h)
theorem zc_aald16 (hexec : p.tables.exec = Jvm.exec) (hb : c.code = cc) (hK : va_K D zk_cl (zk_ty dA) s) (hP : va_P D zk_cl (zc_P o b dA π σ) H) {i : Int} (hf : zk_g (0 ≤ i ∧ i < 3) (if 0 ≤ π 16 i then Y else Z) = some r) (hdg : decode cc pc = .ok (.aaload, 1))
    (kt : Y = some r → W p l e R s m args below meth c H locs cells slots Q (F0 m (pc + 1) ls (.ref (b 300 i.toNat) :: rest))) (kf : Z = some r → W p l e R s m args below meth c H locs cells slots Q (F0 m (pc + 1) ls (.null :: rest))) : W p l e R s m args below meth c H locs cells slots Q (F0 m pc ls (zk_I i :: .ref (b 16 0) :: rest)) := by
  obtain ⟨h1, hf⟩ := zk_gs hf
  have hf := zk_ifs hf
  refine zk_aald hexec hb hK hP 8 2 rfl rfl rfl (zk_in (n := 3) (by omega) (by omega)) hdg ?_
  by_cases hp : 0 ≤ π 16 i
  · rw [show zc_q b π 16 300 (Int32.ofInt i).toNatClampNeg = some (b 300 i.toNat) from by rw [zk_cln (by omega)]; unfold zc_q; rw [zk_toNat h1.1, if_pos hp]]
    exact kt (hf.1 hp)
  · rw [show zc_q b π 16 300 (Int32.ofInt i).toNatClampNeg = none from by rw [zk_cln (by omega)]; unfold zc_q; rw [zk_toNat h1.1, if_neg hp]]
    exact kf (hf.2 hp)
theorem zc_aaldP16 (hexec : p.tables.exec = Jvm.exec) (hb : c.code = cc) (hK : va_K D zk_cl (zk_ty dA) s) (hP : va_P D zk_cl (zc_P o b dA π σ) H) {i : Int} (hf : zk_g ((0 ≤ i ∧ i < 3) ∧ 0 ≤ π 16 i) Y = some r) (hdg : decode cc pc = .ok (.aaload, 1))
    (kt : Y = some r → W p l e R s m args below meth c H locs cells slots Q (F0 m (pc + 1) ls (.ref (b 300 i.toNat) :: rest))) : W p l e R s m args below meth c H locs cells slots Q (F0 m pc ls (zk_I i :: .ref (b 16 0) :: rest)) := by
  obtain ⟨⟨h1, hp⟩, hf⟩ := zk_gs hf
  exact zc_aald16 (Y := Y) (Z := none) hexec hb hK hP (by rw [zk_gp h1, if_pos hp]; exact hf) hdg kt (fun h => by cases h)
theorem zc_aald8 (hexec : p.tables.exec = Jvm.exec) (hb : c.code = cc) (hK : va_K D zk_cl (zk_ty dA) s) (hP : va_P D zk_cl (zc_P o b dA π σ) H) {i : Int} (hf : zk_g ((0 ≤ i ∧ i < 6) ∧ (0 ≤ π 8 i ∧ π 8 i ≤ 5)) Y = some r) (hdg : decode cc pc = .ok (.aaload, 1))
    (kt : Y = some r → W p l e R s m args below meth c H locs cells slots Q (F0 m (pc + 1) ls (.ref (b 400 i.toNat) :: rest))) : W p l e R s m args below meth c H locs cells slots Q (F0 m pc ls (zk_I i :: .ref (b 8 0) :: rest)) := by
  obtain ⟨⟨h1, hp⟩, hf⟩ := zk_gs hf
  refine zk_aald hexec hb hK hP 4 4 rfl rfl rfl (zk_in (n := 6) (by omega) (by omega)) hdg ?_
  rw [show zc_q b π 8 400 (Int32.ofInt i).toNatClampNeg = some (b 400 i.toNat) from by rw [zk_cln (by omega)]; unfold zc_q; rw [zk_toNat h1.1, if_pos hp.1]]
  exact kt hf
theorem zc_rcopy (hexec : p.tables.exec = Jvm.exec) (hb : c.code = cc) (hts : ∀ w ∈ lw_all, w.before args s = true) (hown : s.vm.findClass RX0 = some m.cls) (hml : c.maxLocals = ls.size) {index : Nat} (hq : Cond.methodLink RX0 index arraycopyName ∈ lw_all) (hK : va_K D zk_cl (zk_ty dA) s) (hP : va_P D zk_cl (zc_P o b dA π σ) H) (hD : ∀ τ, va_D A (zc_P o b dA π τ)) (hS : va_S A H0 H locs) (q0 q1 : Nat) {ks kd a0 a n0 n1 : Nat} {LS LD si di n : Int}
    (ha0 : (zc_P o b dA π σ)[q0]? = some (a0, .inl (dA 0, n0, .inl (zk_f (σ ks))))) (ha1 : (zc_P o b dA π σ)[q1]? = some (a, .inl (dA 0, n1, .inl (zk_f (σ kd))))) (hLS : LS = (n0 : Int) ∧ LS ≤ 2147483647) (hLD : LD = (n1 : Int) ∧ LD ≤ 2147483647) (hset : (zc_P o b dA π σ).set q1 (a, .inl (dA 0, n1, .inl (zk_f (zk_cp σ ks si kd di n kd)))) = zc_P o b dA π (zk_cp σ ks si kd di n))
    (hframes : 1 ≤ R.frames) (hlocals : (rest.map fun v => v.category).sum + (nativeFrameWords "java/lang/System" "arraycopy" 5 + 11) ≤ R.locals) (hf : zk_g ((0 ≤ si ∧ 0 ≤ di ∧ 0 ≤ n) ∧ (si + n ≤ LS ∧ di + n ≤ LD)) (zk_n (zk_cp σ ks si kd di n) X) = some r) (hdg : decode cc pc = .ok (.invokestatic index, 3))
    (kk : ∀ (s1 : ZS) (H1 : Heap) (locs1 : List Loc), X s1 = some r → va_P D zk_cl (zc_P o b dA π s1) H1 → va_S A H0 H1 locs1 → W p l e R s m args below meth c H1 locs1 cells slots Q (F0 m (pc + 3) ls rest)) : W p l e R s m args below meth c H locs cells slots Q (F0 m pc ls (zk_I n :: zk_I di :: .ref a :: zk_I si :: .ref a0 :: rest)) := by
  obtain ⟨⟨⟨g1, g2, g3⟩, g4, g5⟩, hf⟩ := zk_gs hf
  refine va_copyi hexec hb hml hown (hts _ hq) (hts _ q381) (hts _ q380) (hts _ q97) hK hP (hD σ) hS q0 q1 0 0 ha0 ha1 rfl rfl rfl (zk_nneg (by omega)) (zk_nneg (by omega)) (zk_nneg (by omega)) (by rw [zk_cln (by omega), zk_cln (by omega)]; omega) (by rw [zk_cln (by omega), zk_cln (by omega)]; omega) (fun _ _ => rfl) hframes hlocals hdg (fun H1 locs1 hP1 _ hS1 => ?_)
  rw [zk_fcp (by omega) (by omega) (by omega), hset] at hP1
  exact kk _ H1 locs1 hf hP1 hS1
theorem zc_rcopyK (hexec : p.tables.exec = Jvm.exec) (hb : c.code = cc) (hts : ∀ w ∈ lw_all, w.before args s = true) (hown : s.vm.findClass RX0 = some m.cls) (hml : c.maxLocals = ls.size) {index : Nat} (hq : Cond.methodLink RX0 index arraycopyName ∈ lw_all) (hK : va_K D zk_cl (zk_ty dA) s) (hP : va_P D zk_cl (zc_P o b dA π σ) H) (hD : ∀ τ, va_D A (zc_P o b dA π τ)) (hS : va_S A H0 H locs) (q1 : Nat) {kd a n1 : Nat} {LD k si di n : Int}
    (ha1 : (zc_P o b dA π σ)[q1]? = some (a, .inl (dA 0, n1, .inl (zk_f (σ kd))))) (hLD : LD = (n1 : Int) ∧ LD ≤ 2147483647) (hset : (zc_P o b dA π σ).set q1 (a, .inl (dA 0, n1, .inl (zk_f (zk_cp σ (300 + k.toNat) si kd di n kd)))) = zc_P o b dA π (zk_cp σ (300 + k.toNat) si kd di n))
    (hframes : 1 ≤ R.frames) (hlocals : (rest.map fun v => v.category).sum + (nativeFrameWords "java/lang/System" "arraycopy" 5 + 11) ≤ R.locals) (hf : zk_g ((0 ≤ k ∧ k < 3) ∧ (0 ≤ si ∧ 0 ≤ di ∧ 0 ≤ n) ∧ (si + n ≤ π 16 k ∧ di + n ≤ LD) ∧ π 16 k ≤ 2147483647) (zk_n (zk_cp σ (300 + k.toNat) si kd di n) X) = some r) (hdg : decode cc pc = .ok (.invokestatic index, 3))
    (kk : ∀ (s1 : ZS) (H1 : Heap) (locs1 : List Loc), X s1 = some r → va_P D zk_cl (zc_P o b dA π s1) H1 → va_S A H0 H1 locs1 → W p l e R s m args below meth c H1 locs1 cells slots Q (F0 m (pc + 3) ls rest)) : W p l e R s m args below meth c H locs cells slots Q (F0 m pc ls (zk_I n :: zk_I di :: .ref a :: zk_I si :: .ref (b 300 k.toNat) :: rest)) := by
  obtain ⟨⟨h0, h1, h2, h3⟩, hf⟩ := zk_gs hf
  obtain ⟨q, hq0⟩ := zc_at16 (o := o) (b := b) (dA := dA) (π := π) (σ := σ) (r := k) ⟨h0, by omega⟩
  exact zc_rcopy hexec hb hts hown hml hq hK hP hD hS q q1 (LS := π 16 k) hq0 ha1 ⟨(zk_toNat (by omega)).symm, h3⟩ hLD hset hframes hlocals (by rw [zk_gp ⟨h1, h2⟩]; exact hf) hdg kk
end ZC
