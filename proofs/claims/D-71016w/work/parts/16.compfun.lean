/-- what one of a kind dares -/
def zc_daresF (d : Int) : Option Int := zk_g (zk_R d) (if 5 ≤ d then some d else some 0)
def zc_d1 (d n : Int) : Option Int := zk_g ((0 ≤ n ∧ n ≤ 2147483647) ∧ (0 < (2 : Int) ∧ (2 : Int) ≤ 2147483647)) (zk_g (zk_R (n % 2)) (if n % 2 = 0 then some (2 * d) else some d))
def zc_d4 (d f : Int) : Option Int := zk_g (zk_R 3 ∧ zk_R f) (some (d + min 3 f))
def zc_d5 (d : Int) : Option Int := zk_b (zc_daresF d) fun v => zk_g (zk_R 0 ∧ zk_R (10 - v)) (some (max 0 (10 - v)))
def zc_daresK (k d n f : Int) : Option Int :=
  if k = 1 then zc_d1 d n else if k = 2 then zc_daresF d else if k = 4 then zc_d4 d f else if k = 5 then zc_d5 d else some d
def zc_daredBy (p0 p1 p2 p3 : Int) (π : ZS) (σ : ZS) : Option Int := zk_g ((0 ≤ p0 ∧ p0 < 6) ∧ (0 ≤ π 8 p0 ∧ π 8 p0 ≤ 5)) (zc_daresK (π 8 p0) p1 p2 p3)
def zc_fadedBy (p0 : Int) (π : ZS) (σ : ZS) : Option Int := zk_g ((0 ≤ p0 ∧ p0 < 6) ∧ (0 ≤ π 8 p0 ∧ π 8 p0 ≤ 5)) (some (if π 8 p0 = 2 ∨ π 8 p0 = 5 then 2 else if π 8 p0 = 3 ∨ π 8 p0 = 4 then 0 else 1))
def zc_asked (π : ZS) (σ : ZS) : Option (Int) :=
  some (σ 2 0)
def zc_upper (π : ZS) (σ : ZS) : Option (Int) :=
  some (σ 3 0)
def zc_lower (π : ZS) (σ : ZS) : Option (Int) :=
  some (σ 4 0)
def zc_in (p0 p1 p2 : Int) : Option (Int) :=
  zk_g (zk_R p0 ∧ zk_R p1) (if p0 < p1 then (some 0) else (zk_g (zk_R p0 ∧ zk_R p2) (if p2 < p0 then (some 0) else (some 1))))
def zc_isRow (p0 : Int) : Option (Int) :=
  zk_b (zc_in p0 0 5) fun v1 => zk_g (v1 = 0 ∨ v1 = 1) (some v1)
def zc_found (p1 : Int) (π : ZS) (σ : ZS) : Option (Int × ZS) :=
  zk_n (zk_u σ 0 0 p1) fun s1 => zk_g (0 ≤ p1 ∧ p1 < 6) (zk_g (0 ≤ p1 ∧ p1 < 6) (zk_n (zk_u s1 1 p1 (s1 1 p1 + 1)) fun s2 => some ((-3), s2)))
def zc_say (p1 p2 : Int) (π : ZS) (σ : ZS) : Option (Int × ZS) :=
  zk_n (zk_u σ 2 0 p1) fun s1 => some (p2, s1)
def zc_isText (p0 : Int) : Option (Int) :=
  zk_b (zc_in p0 0 3) fun v1 => zk_g (v1 = 0 ∨ v1 = 1) (some v1)
def zc_byteAt (p0 p1 : Int) (π : ZS) (σ : ZS) : Option (Int) :=
  zk_g ((0 ≤ p0 ∧ p0 < 4) ∧ 0 ≤ π 6 p0) (zk_g (zk_R p1 ∧ zk_R (π 6 p0)) (if (π 6 p0) ≤ p1 then (some 0) else (zk_g ((0 ≤ p0 ∧ p0 < 4) ∧ (0 ≤ p1 ∧ p1 < π 6 p0) ∧ p1 ≤ 2147483647) (some (σ (200 + p0.toNat) p1)))))
def zc_figure (p1 : Int) (π : ZS) (σ : ZS) : Option (Int × ZS) :=
  zk_b (zc_byteAt p1 (σ 10 0) π σ) fun v1 => zk_n (α := Int) (v1 - 48) fun x2_2 => zk_b (zc_in x2_2 0 9) fun v3 => zk_g (zk_R v3) (if v3 = 0 then (some ((-9), σ)) else (zk_n (zk_u σ 10 0 (σ 10 0 + 1)) fun s4 => some (x2_2, s4)))
def zc_readHead (p1 : Int) (π : ZS) (σ : ZS) : Option (Int × ZS) :=
  zk_b (zc_byteAt p1 (σ 10 0) π σ) fun v1 => zk_g (zk_R v1) (if v1 = 102 then (zk_n (zk_u σ 10 0 (σ 10 0 + 1)) fun s2 => zk_b2 (zc_figure p1 π s2) fun v3 s4 => zk_n (zk_u s4 12 0 v3) fun s5 => zk_g (zk_R (s5 12 0)) (some (if (s5 12 0) = (-9) then 0 else 1, s5))) else (some (0, σ)))
def zc_kindOf (p0 : Int) : Option (Int) :=
  zk_g (zk_R p0) (if p0 = 98 then (some 3) else if p0 = 100 then (some 1) else if p0 = 101 then (some 2) else if p0 = 112 then (some 0) else if p0 = 113 then (some 5) else if p0 = 116 then (some 4) else (some (-9)))
def zc_isDaring (p0 : Int) : Option (Int) :=
  zk_b (zc_in p0 0 20) fun v1 => zk_g (v1 = 0 ∨ v1 = 1) (some v1)
def zc_readDaring_j27 (x2 x3 y0 : Int) (π : ZS) (s0 : ZS) : Option (Int × ZS) :=
  zk_g (zk_R y0) (if y0 = (-9) then (some ((-9), s0)) else (zk_n (α := Int) (10 * x3 + y0) fun x5_6 => zk_b (zc_isDaring x5_6) fun v7 => zk_g (zk_R v7) (if v7 = 0 then (zk_n (zk_u s0 10 0 x2) fun s8 => some ((-9), s8)) else (some (x5_6, s0)))))
def zc_readDaring (p1 : Int) (π : ZS) (σ : ZS) : Option (Int × ZS) :=
  zk_n (α := Int) (σ 10 0) fun x2_1 => zk_b2 (zc_figure p1 π σ) fun v2 s3 => zk_g (zk_R v2) (if v2 = (-9) then (zc_readDaring_j27 x2_1 v2 (-9) π s3) else (zk_b2 (zc_figure p1 π s3) fun v4 s5 => zc_readDaring_j27 x2_1 v2 v4 π s5))
def zc_readOne_j96 (x3 y0 y1 : Int) (π : ZS) (s0 : ZS) : Option (Int × ZS) :=
  zk_g (0 ≤ y0 ∧ y0 < 18) (zk_n (zk_u s0 13 y0 y1) fun s11 => zk_g (0 ≤ (x3 + 2) ∧ (x3 + 2) < 18) (zk_g (zk_R (s11 13 (x3 + 2))) (if (s11 13 (x3 + 2)) = (-9) then (some (0, s11)) else (zk_n (zk_u s11 11 0 (s11 11 0 + 1)) fun s12 => some (1, s12)))))
def zc_readOne (p1 : Int) (π : ZS) (σ : ZS) : Option (Int × ZS) :=
  zk_b (zc_byteAt p1 (σ 10 0) π σ) fun v1 => zk_b (zc_kindOf v1) fun v2 => zk_g (zk_R v2) (if v2 = (-9) then (some (0, σ)) else (zk_g (zk_R (σ 11 0)) (if (σ 11 0) = 6 then (some (0, σ)) else (zk_n (zk_u σ 10 0 (σ 10 0 + 1)) fun s3 => zk_n (α := Int) (3 * (s3 11 0)) fun x3_4 => zk_g (0 ≤ x3_4 ∧ x3_4 < 18) (zk_n (zk_u s3 13 x3_4 v2) fun s5 => zk_b2 (zc_figure p1 π s5) fun v6 s7 => zk_g (0 ≤ (x3_4 + 1) ∧ (x3_4 + 1) < 18) (zk_n (zk_u s7 13 (x3_4 + 1) v6) fun s8 => zk_g (0 ≤ (x3_4 + 1) ∧ (x3_4 + 1) < 18) (zk_g (zk_R (s8 13 (x3_4 + 1))) (if (s8 13 (x3_4 + 1)) = (-9) then (zc_readOne_j96 x3_4 (x3_4 + 2) (-9) π s8) else (zk_b2 (zc_readDaring p1 π s8) fun v9 s10 => zc_readOne_j96 x3_4 (x3_4 + 2) v9 π s10)))))))))
def zc_read_b16 (N : Nat) (x1 : Int) (π : ZS) (s0 : ZS) : Option ((ZS) ⊕ ((ZS) ⊕ (Int × ZS))) :=
  zk_g ((0 ≤ x1 ∧ x1 < 4) ∧ 0 ≤ π 6 x1) (zk_g (zk_R (s0 10 0) ∧ zk_R (π 6 x1)) (if (π 6 x1) ≤ (s0 10 0) then (some (.inr (.inl (s0)))) else (zk_g ((0 ≤ x1 ∧ x1 < 4) ∧ (0 ≤ (s0 10 0) ∧ (s0 10 0) < π 6 x1) ∧ (s0 10 0) ≤ 2147483647) (zk_g (zk_R (s0 (200 + x1.toNat) (s0 10 0))) (if (s0 (200 + x1.toNat) (s0 10 0)) = 32 then (zk_n (zk_u s0 10 0 (s0 10 0 + 1)) fun s8 => some (.inl (s8))) else (zk_g (zk_R (s0 12 0)) (if (s0 12 0) = (-9) then (zk_b2 (zc_readHead x1 π s0) fun v6 s7 => zk_g (zk_R v6) (if v6 = 0 then (some (.inr (.inr (s7 10 0, s7)))) else (some (.inl (s7))))) else (zk_b2 (zc_readOne x1 π s0) fun v4 s5 => zk_g (zk_R v4) (if v4 = 0 then (some (.inr (.inr (s5 10 0, s5)))) else (some (.inl (s5))))))))))))
def zc_read_j82 (N : Nat) (x1 : Int) (π : ZS) (s0 : ZS) : Option (Int × ZS) :=
  zk_g (zk_R (s0 11 0)) (if (s0 11 0) = 0 then (zk_g ((0 ≤ x1 ∧ x1 < 4) ∧ 0 ≤ π 6 x1) (some (π 6 x1, s0))) else (some ((-9), s0)))
def zc_read (N : Nat) (p1 : Int) (π : ZS) (σ : ZS) : Option (Int × ZS) :=
  zk_n (zk_u σ 10 0 0) fun s1 => zk_n (zk_u s1 11 0 0) fun s2 => zk_n (zk_u s2 12 0 (-9)) fun s3 => zk_b (zk_loop (α := ZS) (β := (ZS) ⊕ (Int × ZS)) N (fun a => zc_read_b16 N p1 π a) (s3)) (zk_lr1 (fun e => zc_read_j82 N p1 π e))
def zc_fault (N : Nat) (p1 : Int) (π : ZS) (σ : ZS) : Option (Int × ZS) :=
  zk_b (zc_isText p1) fun v1 => zk_g (zk_R v1) (if v1 = 0 then (some ((-1), σ)) else (zk_g (0 ≤ p1 ∧ p1 < 4) (if 0 ≤ π 6 p1 then (zk_g ((0 ≤ p1 ∧ p1 < 4) ∧ 0 ≤ π 6 p1) (zk_b2 (zc_read N p1 π σ) fun v4 s5 => some (v4, s5))) else (zk_b2 (zc_found 1 π σ) fun v2 s3 => some (v2, s3)))))
def zc_isOne (p1 : Int) (π : ZS) (σ : ZS) : Option (Int) :=
  zk_b (zc_in p1 0 (σ 7 0 - 1)) fun v1 => zk_g (v1 = 0 ∨ v1 = 1) (some v1)
def zc_farOn (p1 p2 : Int) (π : ZS) (σ : ZS) : Option (Int) :=
  zk_g (0 ≤ (20 * p1 + 1) ∧ (20 * p1 + 1) < 160) (zk_g (0 ≤ (20 * p1 + 8 + p2) ∧ (20 * p1 + 8 + p2) < 160) (zk_g (zk_R (σ 9 (20 * p1 + 1) - (σ 9 (20 * p1 + 8 + p2)))) (some (if (σ 9 (20 * p1 + 1) - (σ 9 (20 * p1 + 8 + p2))) < 0 then -(σ 9 (20 * p1 + 1) - (σ 9 (20 * p1 + 8 + p2))) else (σ 9 (20 * p1 + 1) - (σ 9 (20 * p1 + 8 + p2)))))))
def zc_daresOn (p1 p2 : Int) (π : ZS) (σ : ZS) : Option (Int) :=
  zk_g ((0 ≤ p2 ∧ p2 < 6) ∧ (0 ≤ π 8 p2 ∧ π 8 p2 ≤ 5)) (zk_g (0 ≤ (20 * p1 + 2 + p2) ∧ (20 * p1 + 2 + p2) < 160) (zk_g (0 ≤ (20 * p1 + 0) ∧ (20 * p1 + 0) < 160) (zk_b (zc_farOn p1 p2 π σ) fun v1 => zk_b (zc_daredBy p2 (σ 9 (20 * p1 + 2 + p2)) (σ 9 (20 * p1 + 0)) v1 π σ) fun v2 => some v2)))
def zc_oneTells (p1 p2 : Int) (π : ZS) (σ : ZS) : Option (Int) :=
  zk_g (zk_R p2) (if p2 = 0 then (zk_g ((0 ≤ p1 ∧ p1 < 6) ∧ (0 ≤ π 8 p1 ∧ π 8 p1 ≤ 5)) (zk_g ((0 ≤ p1 ∧ p1 < 6) ∧ (0 ≤ π 8 p1 ∧ π 8 p1 ≤ 5)) (some (π 8 p1)))) else if p2 = 1 then (zk_g (0 ≤ (8 + p1) ∧ (8 + p1) < 160) (some (σ 9 (8 + p1)))) else if p2 = 2 then (zk_g (0 ≤ (2 + p1) ∧ (2 + p1) < 160) (some (σ 9 (2 + p1)))) else if p2 = 3 then (zk_b (zc_daresOn 0 p1 π σ) fun v1 => some v1) else if p2 = 4 then (zk_g (0 ≤ (14 + p1) ∧ (14 + p1) < 160) (some (σ 9 (14 + p1)))) else (zk_b (zc_farOn 0 p1 π σ) fun v2 => some v2))
def zc_one (p1 p2 : Int) (π : ZS) (σ : ZS) : Option (Int × ZS) :=
  zk_b (zc_isOne p1 π σ) fun v1 => zk_g (zk_R v1) (if v1 = 0 then (some ((-1), σ)) else (zk_b (zc_in p2 0 5) fun v2 => zk_g (zk_R v2) (if v2 = 0 then (some ((-1), σ)) else (zk_b (zc_oneTells p1 p2 π σ) fun v3 => zk_b2 (zc_say v3 1 π σ) fun v4 s5 => some (v4, s5)))))
def zc_remember (π : ZS) (σ : ZS) : Option (Int × ZS) :=
  zk_g ((0 ≤ (0 : Int) ∧ 0 ≤ (20 * (σ 14 0)) ∧ 0 ≤ (20 : Int)) ∧ ((0 : Int) + 20 ≤ 160 ∧ (20 * (σ 14 0)) + 20 ≤ 800)) (zk_n (zk_cp σ 9 0 15 (20 * (σ 14 0)) 20) fun s1 => zk_n (zk_u s1 14 0 (s1 14 0 + 1)) fun s2 => some (0, s2))
def zc_has (p0 p1 : Int) : Option (Int) :=
  zk_g (zk_R p0 ∧ (0 ≤ p1 ∧ p1 < 32)) (zk_g (zk_R (zk_and (p0 / 2 ^ p1.toNat) 1)) (some (if (zk_and (p0 / 2 ^ p1.toNat) 1) = 1 then 1 else 0)))
def zc_isAhead (p1 p2 p3 p4 p5 : Int) (π : ZS) (σ : ZS) : Option (Int) :=
  zk_g (zk_R p3 ∧ zk_R p5) (if p3 = p5 then (zk_b (zc_farOn p1 p2 π σ) fun v1 => zk_b (zc_farOn p1 p4 π σ) fun v2 => zk_g (zk_R v1 ∧ zk_R v2) (if v1 = v2 then (zk_g (zk_R p2 ∧ zk_R p4) (if p4 ≤ p2 then (some 0) else (some 1))) else (zk_b (zc_farOn p1 p2 π σ) fun v3 => zk_b (zc_farOn p1 p4 π σ) fun v4 => zk_g (zk_R v3 ∧ zk_R v4) (if v4 ≤ v3 then (some 0) else (some 1))))) else (zk_g (zk_R p3 ∧ zk_R p5) (some (if p3 ≤ p5 then 0 else 1))))
def zc_hasIt_j73 (N : Nat) (x1 x2 x3 x4 x5 : Int) (π : ZS) (σ : ZS) : Option ((Int × Int × Int) ⊕ (Int)) :=
  zk_n (α := Int) (x5 + 1) fun x5_4 => some (.inl (x3, x4, x5_4))
def zc_hasIt_j66 (N : Nat) (x1 x2 x5 x6 : Int) (π : ZS) (σ : ZS) : Option ((Int × Int × Int) ⊕ (Int)) :=
  zc_hasIt_j73 N x1 x2 x5 x6 x5 π σ
def zc_hasIt_j38 (N : Nat) (x1 x2 x3 x4 x5 y0 : Int) (π : ZS) (σ : ZS) : Option ((Int × Int × Int) ⊕ (Int)) :=
  zk_g (zk_R y0) (if y0 ≤ 0 then (zc_hasIt_j73 N x1 x2 x3 x4 x5 π σ) else (zk_g (zk_R x3) (if x3 = (-9) then (zc_hasIt_j66 N x1 x2 x5 y0 π σ) else (zk_b (zc_isAhead x1 x5 y0 x3 x4 π σ) fun v3 => zk_g (zk_R v3) (if v3 = 0 then (zc_hasIt_j73 N x1 x2 x3 x4 x5 π σ) else (zc_hasIt_j66 N x1 x2 x5 y0 π σ))))))
def zc_hasIt_b9 (N : Nat) (x1 x2 x3 x4 x5 : Int) (π : ZS) (σ : ZS) : Option ((Int × Int × Int) ⊕ (Int)) :=
  zk_g (zk_R x5 ∧ zk_R (σ 7 0)) (if (σ 7 0) ≤ x5 then (some (.inr (x3))) else (zk_b (zc_has x2 x5) fun v1 => zk_g (zk_R v1) (if v1 = 0 then (zk_b (zc_daresOn x1 x5 π σ) fun v2 => zc_hasIt_j38 N x1 x2 x3 x4 x5 v2 π σ) else (zc_hasIt_j38 N x1 x2 x3 x4 x5 0 π σ))))
def zc_hasIt_j79 (N : Nat) (x3 : Int) (π : ZS) (σ : ZS) : Option (Int) :=
  some x3
def zc_hasIt (N : Nat) (p1 p2 : Int) (π : ZS) (σ : ZS) : Option (Int) :=
  zk_b (zk_loop (α := Int × Int × Int) (β := Int) N (fun a => zc_hasIt_b9 N p1 p2 a.1 a.2.1 a.2.2 π σ) ((-9), 0, 0)) (fun e => zc_hasIt_j79 N e π σ)
def zc_passes_j44 (N : Nat) (x2 x3 x4 y0 : Int) (π : ZS) (s0 : ZS) : Option ((Int × ZS) ⊕ (ZS)) :=
  zk_g (0 ≤ (x2 + 2 + x4) ∧ (x2 + 2 + x4) < 160) (zk_g (zk_R 0 ∧ zk_R (s0 9 (x2 + 2 + x4) - y0)) (zk_g (0 ≤ (x2 + 2 + x4) ∧ (x2 + 2 + x4) < 160) (zk_n (zk_u s0 9 (x2 + 2 + x4) (max 0 (s0 9 (x2 + 2 + x4) - y0))) fun s4 => zk_n (α := Int) (x4 + 1) fun x4_5 => some (.inl (x4_5, s4)))))
def zc_passes_b15 (N : Nat) (x2 x3 x4 : Int) (π : ZS) (s0 : ZS) : Option ((Int × ZS) ⊕ (ZS)) :=
  zk_g (zk_R x4 ∧ zk_R (s0 7 0)) (if (s0 7 0) ≤ x4 then (some (.inr (s0))) else (zk_g (zk_R x4 ∧ zk_R x3) (if x4 = x3 then (zc_passes_j44 N x2 x3 x4 2 π s0) else (zk_g ((0 ≤ x4 ∧ x4 < 6) ∧ (0 ≤ π 8 x4 ∧ π 8 x4 ≤ 5)) (zk_b (zc_fadedBy x4 π s0) fun v3 => zc_passes_j44 N x2 x3 x4 v3 π s0)))))
def zc_passes_j121 (N : Nat) (x2 x3 : Int) (π : ZS) (s0 : ZS) : Option (Int × ZS) :=
  zk_g (0 ≤ (x2 + 0) ∧ (x2 + 0) < 160) (zk_g (0 ≤ (x2 + 0) ∧ (x2 + 0) < 160) (zk_n (zk_u s0 9 (x2 + 0) (s0 9 (x2 + 0) + 1)) fun s8 => some (x3, s8)))
def zc_passes_j81 (N : Nat) (x2 x3 : Int) (π : ZS) (s0 : ZS) : Option (Int × ZS) :=
  zk_g (zk_R x3) (if x3 = (-9) then (zc_passes_j121 N x2 x3 π s0) else (zk_g (0 ≤ (x2 + 8 + x3) ∧ (x2 + 8 + x3) < 160) (zk_g (0 ≤ (x2 + 1) ∧ (x2 + 1) < 160) (zk_n (zk_u s0 9 (x2 + 1) (s0 9 (x2 + 8 + x3))) fun s6 => zk_g (0 ≤ (x2 + 14 + x3) ∧ (x2 + 14 + x3) < 160) (zk_g (0 ≤ (x2 + 14 + x3) ∧ (x2 + 14 + x3) < 160) (zk_n (zk_u s6 9 (x2 + 14 + x3) (s6 9 (x2 + 14 + x3) + 1)) fun s7 => zc_passes_j121 N x2 x3 π s7))))))
def zc_passes (N : Nat) (p1 : Int) (π : ZS) (σ : ZS) : Option (Int × ZS) :=
  zk_n (α := Int) (20 * p1) fun x2_1 => zk_b (zc_hasIt N p1 0 π σ) fun v2 => zk_b (zk_loop (α := Int × ZS) (β := ZS) N (fun a => zc_passes_b15 N x2_1 v2 a.1 π a.2) (0, σ)) (fun e => zc_passes_j81 N x2_1 v2 π e)
def zc_night (N : Nat) (π : ZS) (σ : ZS) : Option (Int × ZS) :=
  zk_g (zk_R (σ 7 0)) (if (σ 7 0) = 0 then (some ((-4), σ)) else (zk_g (zk_R (σ 14 0)) (if (σ 14 0) = 40 then (some ((-2), σ)) else (zk_b2 (zc_remember π σ) fun v1 s2 => zk_b2 (zc_passes N 0 π s2) fun v3 s4 => some (v3, s4)))))
def zc_dared (p1 p2 p3 : Int) (π : ZS) (σ : ZS) : Option (Int × ZS) :=
  zk_b (zc_isOne p1 π σ) fun v1 => zk_g (zk_R v1) (if v1 = 0 then (some ((-1), σ)) else (zk_b (zc_in p2 1 9) fun v2 => zk_g (zk_R v2) (if v2 = 0 then (some ((-1), σ)) else (zk_g (0 ≤ (2 + p1) ∧ (2 + p1) < 160) (zk_n (α := Int) (σ 9 (2 + p1) + p3) fun x4_3 => zk_b (zc_isDaring x4_3) fun v4 => zk_g (zk_R v4) (if v4 = 0 then (some ((-4), σ)) else (zk_g (zk_R (σ 14 0)) (if (σ 14 0) = 40 then (some ((-2), σ)) else (zk_b2 (zc_remember π σ) fun v5 s6 => zk_g (0 ≤ (2 + p1) ∧ (2 + p1) < 160) (zk_n (zk_u s6 9 (2 + p1) x4_3) fun s7 => some (x4_3, s7)))))))))))
def zc_raise (p1 p2 : Int) (π : ZS) (σ : ZS) : Option (Int × ZS) :=
  zk_b2 (zc_dared p1 p2 p2 π σ) fun v1 s2 => some (v1, s2)
def zc_shame (p1 p2 : Int) (π : ZS) (σ : ZS) : Option (Int × ZS) :=
  zk_b2 (zc_dared p1 p2 (-p2) π σ) fun v1 s2 => some (v1, s2)
def zc_door (p1 p2 : Int) (π : ZS) (σ : ZS) : Option (Int × ZS) :=
  zk_b (zc_isOne p1 π σ) fun v1 => zk_g (zk_R v1) (if v1 = 0 then (some ((-1), σ)) else (zk_b (zc_in p2 0 9) fun v2 => zk_g (zk_R v2) (if v2 = 0 then (some ((-1), σ)) else (zk_g (0 ≤ (8 + p1) ∧ (8 + p1) < 160) (zk_n (α := Int) (σ 9 (8 + p1)) fun x3_3 => zk_g (zk_R x3_3 ∧ zk_R p2) (if x3_3 = p2 then (some ((-4), σ)) else (zk_g (zk_R (σ 14 0)) (if (σ 14 0) = 40 then (some ((-2), σ)) else (zk_b2 (zc_remember π σ) fun v4 s5 => zk_g (0 ≤ (8 + p1) ∧ (8 + p1) < 160) (zk_n (zk_u s5 9 (8 + p1) p2) fun s6 => some (x3_3, s6)))))))))))
def zc_undo_j43 (x1 x2 : Int) (π : ZS) (s0 : ZS) : Option (Int × ZS) :=
  zk_n (zk_u s0 14 0 x1) fun s4 => some (x2, s4)
def zc_undo (p1 : Int) (π : ZS) (σ : ZS) : Option (Int × ZS) :=
  zk_b (zc_in p1 0 (σ 14 0)) fun v1 => zk_g (zk_R v1) (if v1 = 0 then (some ((-1), σ)) else (zk_n (α := Int) (σ 14 0 - p1) fun x2_2 => zk_g (zk_R x2_2) (if x2_2 ≤ 0 then (zc_undo_j43 p1 x2_2 π σ) else (zk_g ((0 ≤ (20 * p1) ∧ 0 ≤ (0 : Int) ∧ 0 ≤ (20 : Int)) ∧ ((20 * p1) + 20 ≤ 800 ∧ (0 : Int) + 20 ≤ 160)) (zk_n (zk_cp σ 15 (20 * p1) 9 0 20) fun s3 => zc_undo_j43 p1 x2_2 π s3)))))
def zc_on (p1 : Int) (π : ZS) (σ : ZS) : Option (Int × ZS) :=
  zk_b (zc_in p1 0 2) fun v1 => zk_g (zk_R v1) (if v1 = 0 then (some ((-1), σ)) else (zk_g (0 ≤ p1 ∧ p1 < 3) (if 0 ≤ π 16 p1 then (zk_g ((0 ≤ p1 ∧ p1 < 3) ∧ 0 ≤ π 16 p1) (zk_g ((0 ≤ p1 ∧ p1 < 3) ∧ (0 ≤ (0 : Int) ∧ 0 < π 16 p1) ∧ (0 : Int) ≤ 2147483647) (zk_n (zk_u σ 14 0 (σ (300 + p1.toNat) 0)) fun s4 => zk_g ((0 ≤ p1 ∧ p1 < 3) ∧ 0 ≤ π 16 p1) (zk_g ((0 ≤ p1 ∧ p1 < 3) ∧ (0 ≤ (1 : Int) ∧ 0 ≤ (0 : Int) ∧ 0 ≤ (20 : Int)) ∧ ((1 : Int) + 20 ≤ π 16 p1 ∧ (0 : Int) + 20 ≤ 160) ∧ π 16 p1 ≤ 2147483647) (zk_n (zk_cp s4 (300 + p1.toNat) 1 9 0 20) fun s5 => zk_g ((0 ≤ p1 ∧ p1 < 3) ∧ 0 ≤ π 16 p1) (zk_g ((0 ≤ p1 ∧ p1 < 3) ∧ (0 ≤ (21 : Int) ∧ 0 ≤ (0 : Int) ∧ 0 ≤ (20 * (s5 14 0))) ∧ ((21 : Int) + (20 * (s5 14 0)) ≤ π 16 p1 ∧ (0 : Int) + (20 * (s5 14 0)) ≤ 800) ∧ π 16 p1 ≤ 2147483647) (zk_n (zk_cp s5 (300 + p1.toNat) 21 15 0 (20 * (s5 14 0))) fun s6 => some (s6 14 0, s6)))))))) else (zk_b2 (zc_found 1 π σ) fun v2 s3 => some (v2, s3)))))
def zc_dares (p1 p2 p3 p4 : Int) (π : ZS) (σ : ZS) : Option (Int) :=
  zk_b (zc_isOne p1 π σ) fun v1 => zk_g (zk_R v1) (if v1 = 0 then (some (-1)) else (zk_b (zc_isDaring p2) fun v2 => zk_g (zk_R v2) (if v2 = 0 then (some (-1)) else (zk_b (zc_in p3 0 99) fun v3 => zk_g (zk_R v3) (if v3 = 0 then (some (-1)) else (zk_b (zc_in p4 0 9) fun v4 => zk_g (zk_R v4) (if v4 = 0 then (some (-1)) else (zk_g ((0 ≤ p1 ∧ p1 < 6) ∧ (0 ≤ π 8 p1 ∧ π 8 p1 ≤ 5)) (zk_b (zc_daredBy p1 p2 p3 p4 π σ) fun v5 => some v5)))))))))
def zc_need (p1 : Int) (π : ZS) (σ : ZS) : Option (Int) :=
  zk_g (zk_R p1) (if p1 = 0 then (some (-1)) else (zk_g (zk_R (σ 7 0)) (if (σ 7 0) = 0 then (some (-4)) else (some 0))))
def zc_frame (p1 p2 : Int) (π : ZS) (σ : ZS) : Option (Int × ZS) :=
  zk_g ((0 ≤ (20 * p1) ∧ 0 ≤ (20 * p2) ∧ 0 ≤ (20 : Int)) ∧ ((20 * p1) + 20 ≤ 160 ∧ (20 * p2) + 20 ≤ 160)) (zk_n (zk_cp σ 9 (20 * p1) 9 (20 * p2) 20) fun s1 => some (0, s1))
def zc_where_b30 (N : Nat) (x1 x3 x4 : Int) (π : ZS) (s0 : ZS) : Option ((Int × Int × ZS) ⊕ (Int × ZS)) :=
  zk_g (zk_R x4 ∧ zk_R x1) (if x1 ≤ x4 then (some (.inr (x3, s0))) else (zk_b2 (zc_passes N 1 π s0) fun v5 s6 => zk_n (α := Int) (x4 + 1) fun x4_7 => some (.inl (v5, x4_7, s6))))
def zc_where_j48 (N : Nat) (x3 : Int) (π : ZS) (s0 : ZS) : Option (Int × ZS) :=
  zk_g (0 ≤ (21 : Int) ∧ (21 : Int) < 160) (zk_b2 (zc_say x3 (s0 9 21) π s0) fun v8 s9 => some (v8, s9))
def zc_where (N : Nat) (p1 : Int) (π : ZS) (σ : ZS) : Option (Int × ZS) :=
  zk_b (zc_in p1 0 40) fun v1 => zk_b (zc_need v1 π σ) fun v2 => zk_g (zk_R v2) (if 0 ≤ v2 then (zk_b2 (zc_frame 0 1 π σ) fun v3 s4 => zk_b (zk_loop (α := Int × Int × ZS) (β := Int × ZS) N (fun a => zc_where_b30 N p1 a.1 a.2.1 π a.2.2) ((-9), 0, s4)) (fun e => zc_where_j48 N e.1 π e.2)) else (some (v2, σ)))
def zc_crosses_b31 (N : Nat) (x1 x2 x3 x4 : Int) (π : ZS) (s0 : ZS) : Option ((Int × Int × ZS) ⊕ (Int × ZS)) :=
  zk_g (zk_R x4 ∧ zk_R x2) (if x2 ≤ x4 then (some (.inr (x3, s0))) else (zk_b2 (zc_passes N 1 π s0) fun v5 s6 => zk_g (zk_R v5 ∧ zk_R x1) (zk_n (α := Int) (x3 + (if v5 = x1 then 1 else 0)) fun x3_7 => zk_n (α := Int) (x4 + 1) fun x4_8 => some (.inl (x3_7, x4_8, s6)))))
def zc_crosses_j60 (N : Nat) (x3 : Int) (π : ZS) (s0 : ZS) : Option (Int × ZS) :=
  some (x3, s0)
def zc_crosses (N : Nat) (p1 p2 : Int) (π : ZS) (σ : ZS) : Option (Int × ZS) :=
  zk_b (zc_isOne p1 π σ) fun v1 => zk_g (zk_R v1) (if v1 = 0 then (some ((-1), σ)) else (zk_b (zc_in p2 0 40) fun v2 => zk_g (zk_R v2) (if v2 = 0 then (some ((-1), σ)) else (zk_b2 (zc_frame 0 1 π σ) fun v3 s4 => zk_b (zk_loop (α := Int × Int × ZS) (β := Int × ZS) N (fun a => zc_crosses_b31 N p1 p2 a.1 a.2.1 π a.2.2) (0, 0, s4)) (fun e => zc_crosses_j60 N e.1 π e.2)))))
def zc_first_b18 (N : Nat) (x1 x2 : Int) (π : ZS) (s0 : ZS) : Option ((Int × ZS) ⊕ ((ZS) ⊕ (Int × ZS))) :=
  zk_g (zk_R x2) (if 40 < x2 then (some (.inr (.inl (s0)))) else (zk_b2 (zc_passes N 1 π s0) fun v4 s5 => zk_g (zk_R v4 ∧ zk_R x1) (if v4 = x1 then (some (.inr (.inr (x2, s5)))) else (zk_n (α := Int) (x2 + 1) fun x2_6 => some (.inl (x2_6, s5))))))
def zc_first_j41 (N : Nat) (π : ZS) (s0 : ZS) : Option (Int × ZS) :=
  some ((-9), s0)
def zc_first (N : Nat) (p1 : Int) (π : ZS) (σ : ZS) : Option (Int × ZS) :=
  zk_b (zc_isOne p1 π σ) fun v1 => zk_g (zk_R v1) (if v1 = 0 then (some ((-1), σ)) else (zk_b2 (zc_frame 0 1 π σ) fun v2 s3 => zk_b (zk_loop (α := Int × ZS) (β := (ZS) ⊕ (Int × ZS)) N (fun a => zc_first_b18 N p1 a.1 π a.2) (1, s3)) (zk_lr1 (fun e => zc_first_j41 N π e))))
def zc_hadBy_b23 (N : Nat) (x3 x4 x5 : Int) (π : ZS) (s0 : ZS) : Option ((Int × Int × ZS) ⊕ (Int × ZS)) :=
  zk_g (zk_R x5 ∧ zk_R x3) (if x3 ≤ x5 then (some (.inr (x4, s0))) else (zk_b2 (zc_passes N 1 π s0) fun v4 s5 => zk_n (α := Int) (x5 + 1) fun x5_6 => some (.inl (v4, x5_6, s5))))
def zc_hadBy_j42 (N : Nat) (x4 : Int) (π : ZS) (s0 : ZS) : Option (Int × ZS) :=
  some (x4, s0)
def zc_hadBy (N : Nat) (p1 p2 p3 : Int) (π : ZS) (σ : ZS) : Option (Int × ZS) :=
  zk_b2 (zc_frame 0 1 π σ) fun v1 s2 => zk_g (0 ≤ (22 + p1) ∧ (22 + p1) < 160) (zk_n (zk_u s2 9 (22 + p1) p2) fun s3 => zk_b (zk_loop (α := Int × Int × ZS) (β := Int × ZS) N (fun a => zc_hadBy_b23 N p3 a.1 a.2.1 π a.2.2) ((-9), 0, s3)) (fun e => zc_hadBy_j42 N e.1 π e.2))
def zc_lift_b22 (N : Nat) (x1 x2 x3 : Int) (π : ZS) (s0 : ZS) : Option ((Int × ZS) ⊕ ((ZS) ⊕ (Int × ZS))) :=
  zk_g (0 ≤ (2 + x1) ∧ (2 + x1) < 160) (zk_g (zk_R (s0 9 (2 + x1) + x3)) (if 20 < (s0 9 (2 + x1) + x3) then (some (.inr (.inl (s0)))) else (zk_g (0 ≤ (2 + x1) ∧ (2 + x1) < 160) (zk_b2 (zc_hadBy N x1 (s0 9 (2 + x1) + x3) x2 π s0) fun v3 s4 => zk_g (zk_R v3 ∧ zk_R x1) (if v3 = x1 then (some (.inr (.inr (x3, s4)))) else (zk_n (α := Int) (x3 + 1) fun x3_5 => some (.inl (x3_5, s4))))))))
def zc_lift_j65 (N : Nat) (π : ZS) (s0 : ZS) : Option (Int × ZS) :=
  some ((-9), s0)
def zc_lift (N : Nat) (p1 p2 : Int) (π : ZS) (σ : ZS) : Option (Int × ZS) :=
  zk_b (zc_isOne p1 π σ) fun v1 => zk_g (zk_R v1) (if v1 = 0 then (some ((-1), σ)) else (zk_b (zc_in p2 1 20) fun v2 => zk_g (zk_R v2) (if v2 = 0 then (some ((-1), σ)) else (zk_b (zk_loop (α := Int × ZS) (β := (ZS) ⊕ (Int × ZS)) N (fun a => zc_lift_b22 N p1 p2 a.1 π a.2) (0, σ)) (zk_lr1 (fun e => zc_lift_j65 N π e))))))
def zc_shamed_b3 (N : Nat) (x1 x2 x3 x4 : Int) (π : ZS) (σ : ZS) : Option ((Int) ⊕ ((Unit) ⊕ (Int))) :=
  zk_g (0 ≤ (2 + x1) ∧ (2 + x1) < 160) (zk_g (zk_R x4 ∧ zk_R (σ 9 (2 + x1))) (if (σ 9 (2 + x1)) < x4 then (some (.inr (.inl ()))) else (zk_g ((0 ≤ x1 ∧ x1 < 6) ∧ (0 ≤ π 8 x1 ∧ π 8 x1 ≤ 5)) (zk_g (0 ≤ (2 + x1) ∧ (2 + x1) < 160) (zk_g (0 ≤ (0 : Int) ∧ (0 : Int) < 160) (zk_b (zc_farOn 0 x1 π σ) fun v1 => zk_b (zc_daredBy x1 (σ 9 (2 + x1) - x4) (σ 9 0) v1 π σ) fun v2 => zk_b (zc_isAhead 0 x2 x3 x1 v2 π σ) fun v3 => zk_g (zk_R v3) (if v3 = 0 then (zk_n (α := Int) (x4 + 1) fun x4_4 => some (.inl (x4_4))) else (some (.inr (.inr x4))))))))))
def zc_shamed_j72 (N : Nat) (π : ZS) (σ : ZS) : Option (Int) :=
  some (-9)
def zc_shamed (N : Nat) (p1 p2 p3 : Int) (π : ZS) (σ : ZS) : Option (Int) :=
  zk_b (zk_loop (α := Int) (β := (Unit) ⊕ (Int)) N (fun a => zc_shamed_b3 N p1 p2 p3 a π σ) (0)) (zk_lr1 (fun e => zc_shamed_j72 N π σ))
def zc_changed_j111 (N : Nat) (x1 x2 x3 x5 y0 y1 : Int) (π : ZS) (s0 : ZS) : Option ((Int × Int × ZS) ⊕ (Int × ZS)) :=
  zk_n (α := Int) (y0 + y1) fun x4_5 => zk_n (α := Int) (x5 + 1) fun x5_6 => some (.inl (x4_5, x5_6, s0))
def zc_changed_j74 (N : Nat) (x1 x2 x3 x4 x5 y0 : Int) (π : ZS) (s0 : ZS) : Option ((Int × Int × ZS) ⊕ (Int × ZS)) :=
  zk_g (0 ≤ x5 ∧ x5 < 6) (zk_n (zk_u s0 17 x5 y0) fun s4 => zk_g (zk_R x5 ∧ zk_R x1) (if x5 = x1 then (zc_changed_j111 N x1 x2 x3 x5 x4 0 π s4) else (zk_g (zk_R y0) (if y0 = (-9) then (zc_changed_j111 N x1 x2 x3 x5 x4 1000000 π s4) else (zc_changed_j111 N x1 x2 x3 x5 x4 y0 π s4)))))
def zc_changed_b47 (N : Nat) (x1 x2 x3 x4 x5 : Int) (π : ZS) (s0 : ZS) : Option ((Int × Int × ZS) ⊕ (Int × ZS)) :=
  zk_g (zk_R x5 ∧ zk_R (s0 7 0)) (if (s0 7 0) ≤ x5 then (some (.inr (x4, s0))) else (zk_g (zk_R x5 ∧ zk_R x1) (if x5 = x1 then (zc_changed_j74 N x1 x2 x3 x4 x5 x2 π s0) else (zk_b (zc_shamed N x5 x1 x3 π s0) fun v3 => zc_changed_j74 N x1 x2 x3 x4 x5 v3 π s0))))
def zc_changed_j120 (N : Nat) (x4 : Int) (π : ZS) (s0 : ZS) : Option (Int × ZS) :=
  some (x4, s0)
def zc_changed_j42 (N : Nat) (x1 x2 x3 y0 : Int) (π : ZS) (s0 : ZS) : Option (Int × ZS) :=
  zk_b (zk_loop (α := Int × Int × ZS) (β := Int × ZS) N (fun a => zc_changed_b47 N x1 x2 x3 a.1 a.2.1 π a.2.2) (y0, 0, s0)) (fun e => zc_changed_j120 N e.1 π e.2)
def zc_changed (N : Nat) (p1 p2 : Int) (π : ZS) (σ : ZS) : Option (Int × ZS) :=
  zk_g ((0 ≤ p1 ∧ p1 < 6) ∧ (0 ≤ π 8 p1 ∧ π 8 p1 ≤ 5)) (zk_g (0 ≤ (2 + p1) ∧ (2 + p1) < 160) (zk_g (0 ≤ (0 : Int) ∧ (0 : Int) < 160) (zk_b (zc_farOn 0 p1 π σ) fun v1 => zk_b (zc_daredBy p1 (σ 9 (2 + p1) + p2) (σ 9 0) v1 π σ) fun v2 => zk_g (zk_R v2) (if v2 ≤ 0 then (zc_changed_j42 N p1 p2 v2 1000000 π σ) else (zc_changed_j42 N p1 p2 v2 p2 π σ)))))
def zc_needNotes_b65 (N : Nat) (x4 x5 x6 x7 : Int) (π : ZS) (s0 : ZS) : Option ((Int × Int) ⊕ (Int)) :=
  zk_g (zk_R x7 ∧ zk_R x6) (if x6 ≤ x7 then (some (.inr (x4))) else (zk_g ((0 ≤ x5 ∧ x5 < 6) ∧ (0 ≤ x7 ∧ x7 < π 5 x5) ∧ x7 ≤ 2147483647) (zk_n (α := Int) (s0 (100 + x5.toNat) x7) fun x8_9 => zk_b (zc_isOne x8_9 π s0) fun v10 => zk_n (α := Int) (zk_and x4 v10) fun x4_11 => zk_n (α := Int) (x7 + 1) fun x7_12 => some (.inl (x4_11, x7_12)))))
def zc_needNotes_j96 (N : Nat) (x4 : Int) (π : ZS) (s0 : ZS) : Option (Int × ZS) :=
  zk_g (zk_R x4) (if x4 = 0 then (zk_b2 (zc_found 3 π s0) fun v13 s14 => some (v13, s14)) else (some (0, s0)))
def zc_needNotes (N : Nat) (p1 p2 : Int) (π : ZS) (σ : ZS) : Option (Int × ZS) :=
  zk_b (zc_isOne p1 π σ) fun v1 => zk_g (zk_R v1) (if v1 = 0 then (some ((-1), σ)) else (zk_b (zc_isRow p2) fun v2 => zk_g (zk_R v2) (if v2 = 0 then (some ((-1), σ)) else (zk_g (0 ≤ p2 ∧ p2 < 6) (if 0 ≤ π 5 p2 then (zk_g ((0 ≤ p2 ∧ p2 < 6) ∧ 0 ≤ π 5 p2) (zk_b (zc_in (π 5 p2) 1 10) fun v5 => zk_g (zk_R v5) (if v5 = 0 then (zk_b2 (zc_found 5 π σ) fun v7 s8 => some (v7, s8)) else (zk_g ((0 ≤ p2 ∧ p2 < 6) ∧ 0 ≤ π 5 p2) (zk_n (α := Int) (π 5 p2) fun x6_6 => zk_b (zk_loop (α := Int × Int) (β := Int) N (fun a => zc_needNotes_b65 N a.1 p2 x6_6 a.2 π σ) (1, 0)) (fun e => zc_needNotes_j96 N e π σ)))))) else (zk_b2 (zc_found 1 π σ) fun v3 s4 => some (v3, s4)))))))
def zc_isNoted_b22 (N : Nat) (x3 x4 x5 : Int) (π : ZS) (s0 : ZS) : Option ((Int × Int × ZS) ⊕ (Int × ZS)) :=
  zk_g ((0 ≤ x3 ∧ x3 < 6) ∧ 0 ≤ π 5 x3) (zk_g (zk_R x5 ∧ zk_R (π 5 x3)) (if (π 5 x3) ≤ x5 then (some (.inr (x4, s0))) else (zk_g (zk_R x4) (if x4 = 0 then (some (.inr (x4, s0))) else (zk_b2 (zc_passes N 1 π s0) fun v4 s5 => zk_g ((0 ≤ x3 ∧ x3 < 6) ∧ (0 ≤ x5 ∧ x5 < π 5 x3) ∧ x5 ≤ 2147483647) (zk_g (zk_R v4 ∧ zk_R (s5 (100 + x3.toNat) x5)) (zk_n (α := Int) (if v4 = (s5 (100 + x3.toNat) x5) then 1 else 0) fun x4_6 => zk_n (α := Int) (x5 + 1) fun x5_7 => some (.inl (x4_6, x5_7, s5)))))))))
def zc_isNoted_j59 (N : Nat) (x4 : Int) (π : ZS) (s0 : ZS) : Option (Int × ZS) :=
  zk_g (x4 = 0 ∨ x4 = 1) (some (x4, s0))
def zc_isNoted (N : Nat) (p1 p2 p3 : Int) (π : ZS) (σ : ZS) : Option (Int × ZS) :=
  zk_b2 (zc_frame 0 1 π σ) fun v1 s2 => zk_g (0 ≤ (22 + p1) ∧ (22 + p1) < 160) (zk_n (zk_u s2 9 (22 + p1) p2) fun s3 => zk_b (zk_loop (α := Int × Int × ZS) (β := Int × ZS) N (fun a => zc_isNoted_b22 N p3 a.1 a.2.1 π a.2.2) (1, 0, s3)) (fun e => zc_isNoted_j59 N e.1 π e.2))
def zc_daringSet_j32 (N : Nat) (x1 x2 x4 y0 y1 : Int) (π : ZS) (s0 : ZS) : Option ((Int × Int × ZS) ⊕ (Int × ZS)) :=
  zk_n (α := Int) (zk_or y0 y1) fun x3_3 => zk_n (α := Int) (x4 + 1) fun x4_4 => some (.inl (x3_3, x4_4, s0))
def zc_daringSet_b5 (N : Nat) (x1 x2 x3 x4 : Int) (π : ZS) (s0 : ZS) : Option ((Int × Int × ZS) ⊕ (Int × ZS)) :=
  zk_g (zk_R x4) (if 20 < x4 then (some (.inr (x3, s0))) else (zk_b2 (zc_isNoted N x1 x4 x2 π s0) fun v1 s2 => zk_g (zk_R v1) (if v1 = 0 then (zc_daringSet_j32 N x1 x2 x4 x3 0 π s2) else (zk_g (0 ≤ x4 ∧ x4 < 31) (zc_daringSet_j32 N x1 x2 x4 x3 (1 * 2 ^ x4.toNat) π s2)))))
def zc_daringSet_j40 (N : Nat) (x3 : Int) (π : ZS) (s0 : ZS) : Option (Int × ZS) :=
  some (x3, s0)
def zc_daringSet (N : Nat) (p1 p2 : Int) (π : ZS) (σ : ZS) : Option (Int × ZS) :=
  zk_b (zk_loop (α := Int × Int × ZS) (β := Int × ZS) N (fun a => zc_daringSet_b5 N p1 p2 a.1 a.2.1 π a.2.2) (0, 0, σ)) (fun e => zc_daringSet_j40 N e.1 π e.2)
def zc_darings (N : Nat) (p1 p2 : Int) (π : ZS) (σ : ZS) : Option (Int × ZS) :=
  zk_b2 (zc_needNotes N p1 p2 π σ) fun v1 s2 => zk_g (zk_R v1) (if 0 ≤ v1 then (zk_g ((0 ≤ p2 ∧ p2 < 6) ∧ 0 ≤ π 5 p2) (zk_b2 (zc_daringSet N p1 p2 π s2) fun v3 s4 => some (v3, s4))) else (some (v1, s2)))
def zc_alike_b3 (N : Nat) (x1 x2 x3 x4 : Int) (π : ZS) (s0 : ZS) : Option ((Int × ZS) ⊕ (ZS)) :=
  zk_g (zk_R x4) (if 6 < x4 then (some (.inr (s0))) else (zk_g (0 ≤ x4 ∧ x4 < 7) (zk_n (zk_u s0 19 x4 0) fun s1 => zk_n (α := Int) (x4 + 1) fun x4_2 => some (.inl (x4_2, s1)))))
def zc_alike_j76 (N : Nat) (x1 x2 x3 x4 : Int) (π : ZS) (s0 : ZS) : Option ((Int × ZS) ⊕ (ZS)) :=
  zk_n (α := Int) (x4 + 1) fun x4_7 => some (.inl (x4_7, s0))
def zc_alike_b27 (N : Nat) (x1 x2 x3 x4 : Int) (π : ZS) (s0 : ZS) : Option ((Int × ZS) ⊕ (ZS)) :=
  zk_g (zk_R x4) (if 20 < x4 then (some (.inr (s0))) else (zk_b (zc_has x1 x4) fun v3 => zk_g (zk_R v3) (if v3 = 0 then (zc_alike_j76 N x1 x2 x3 x4 π s0) else (zk_b2 (zc_hadBy N x2 x4 x3 π s0) fun v4 s5 => zk_g (zk_R v4) (zk_g (0 ≤ (if v4 = (-9) then 6 else v4) ∧ (if v4 = (-9) then 6 else v4) < 7) (zk_g (0 ≤ (if v4 = (-9) then 6 else v4) ∧ (if v4 = (-9) then 6 else v4) < 7) (zk_n (zk_u s5 19 (if v4 = (-9) then 6 else v4) ((s5 19 (if v4 = (-9) then 6 else v4)) + 1)) fun s6 => zc_alike_j76 N x1 x2 x3 x4 π s6)))))))
def zc_alike_b88 (N : Nat) (x4 x5 : Int) (π : ZS) (s0 : ZS) : Option ((Int × Int) ⊕ (Int)) :=
  zk_g (zk_R x5) (if 6 < x5 then (some (.inr (x4))) else (zk_g (0 ≤ x5 ∧ x5 < 7) (zk_g (zk_R x4 ∧ zk_R (s0 19 x5)) (zk_n (α := Int) (max x4 (s0 19 x5)) fun x4_8 => zk_n (α := Int) (x5 + 1) fun x5_9 => some (.inl (x4_8, x5_9))))))
def zc_alike_j115 (N : Nat) (x4 : Int) (π : ZS) (s0 : ZS) : Option (Int × ZS) :=
  some (x4, s0)
def zc_alike_j82 (N : Nat) (π : ZS) (s0 : ZS) : Option (Int × ZS) :=
  zk_b (zk_loop (α := Int × Int) (β := Int) N (fun a => zc_alike_b88 N a.1 a.2 π s0) (0, 0)) (fun e => zc_alike_j115 N e π s0)
def zc_alike_j24 (N : Nat) (x1 x2 x3 : Int) (π : ZS) (s0 : ZS) : Option (Int × ZS) :=
  zk_b (zk_loop (α := Int × ZS) (β := ZS) N (fun a => zc_alike_b27 N x1 x2 x3 a.1 π a.2) (0, s0)) (fun e => zc_alike_j82 N π e)
def zc_alike (N : Nat) (p1 p2 p3 : Int) (π : ZS) (σ : ZS) : Option (Int × ZS) :=
  zk_b (zk_loop (α := Int × ZS) (β := ZS) N (fun a => zc_alike_b3 N p1 p2 p3 a.1 π a.2) (0, σ)) (fun e => zc_alike_j24 N p1 p2 p3 π e)
def zc_look_b44 (N : Nat) (x1 x4 x5 x6 x7 : Int) (π : ZS) (s0 : ZS) : Option ((Int × Int × Int × ZS) ⊕ (Int × Int × ZS)) :=
  zk_g (zk_R x7) (if 20 < x7 then (some (.inr (x5, x6, s0))) else (zk_b2 (zc_alike N x4 x1 x7 π s0) fun v5 s6 => zk_g (zk_R v5 ∧ zk_R x6) (zk_n (α := Int) (if x6 ≤ v5 then x5 else x7) fun x5_7 => zk_g (zk_R x6 ∧ zk_R v5) (zk_n (α := Int) (min x6 v5) fun x6_8 => zk_n (α := Int) (x7 + 1) fun x7_9 => some (.inl (x5_7, x6_8, x7_9, s6))))))
def zc_look_j93 (N : Nat) (x5 x6 : Int) (π : ZS) (s0 : ZS) : Option (Int × ZS) :=
  zk_b2 (zc_say x6 x5 π s0) fun v10 s11 => some (v10, s11)
def zc_look (N : Nat) (p1 p2 : Int) (π : ZS) (σ : ZS) : Option (Int × ZS) :=
  zk_b2 (zc_needNotes N p1 p2 π σ) fun v1 s2 => zk_g (zk_R v1) (if 0 ≤ v1 then (zk_g ((0 ≤ p2 ∧ p2 < 6) ∧ 0 ≤ π 5 p2) (zk_b2 (zc_daringSet N p1 p2 π s2) fun v3 s4 => zk_g (zk_R v3) (if v3 = 0 then (some ((-9), s4)) else (zk_b (zk_loop (α := Int × Int × Int × ZS) (β := Int × Int × ZS) N (fun a => zc_look_b44 N p1 v3 a.1 a.2.1 a.2.2.1 π a.2.2.2) (0, 1000000, 1, s4)) (fun e => zc_look_j93 N e.1 e.2.1 π e.2.2))))) else (some (v1, s2)))
def zc_daringOf_j33 (N : Nat) (x1 x3 y0 y1 : Int) (π : ZS) (σ : ZS) : Option ((Int × Int) ⊕ (Int)) :=
  zk_n (α := Int) (y0 + y1) fun x2_2 => zk_n (α := Int) (x3 + 1) fun x3_3 => some (.inl (x2_2, x3_3))
def zc_daringOf_b4 (N : Nat) (x1 x2 x3 : Int) (π : ZS) (σ : ZS) : Option ((Int × Int) ⊕ (Int)) :=
  zk_g (zk_R x3 ∧ zk_R (σ 7 0)) (if (σ 7 0) ≤ x3 then (some (.inr (x2))) else (zk_b (zc_has x1 x3) fun v1 => zk_g (zk_R v1) (if v1 = 0 then (zc_daringOf_j33 N x1 x3 x2 0 π σ) else (zk_g (0 ≤ (2 + x3) ∧ (2 + x3) < 160) (zc_daringOf_j33 N x1 x3 x2 (σ 9 (2 + x3)) π σ)))))
def zc_daringOf_j41 (N : Nat) (x2 : Int) (π : ZS) (σ : ZS) : Option (Int) :=
  some x2
def zc_daringOf (N : Nat) (p1 : Int) (π : ZS) (σ : ZS) : Option (Int) :=
  zk_b (zk_loop (α := Int × Int) (β := Int) N (fun a => zc_daringOf_b4 N p1 a.1 a.2 π σ) (0, 0)) (fun e => zc_daringOf_j41 N e π σ)
def zc_laySets_j98 (N : Nat) (x1 x2 : Int) (π : ZS) (s0 : ZS) : Option ((Int × ZS) ⊕ (ZS)) :=
  zk_n (α := Int) (x2 + 1) fun x2_6 => some (.inl (x2_6, s0))
def zc_laySets_j65 (N : Nat) (x1 x2 y0 : Int) (π : ZS) (s0 : ZS) : Option ((Int × ZS) ⊕ (ZS)) :=
  zk_n (zk_u s0 21 0 y0) fun s7 => zk_n (zk_u s7 20 0 (s7 20 0 + 1)) fun s8 => zk_n (zk_u s8 22 0 (zk_and (s8 22 0) x2)) fun s9 => zk_n (zk_u s9 23 0 (zk_or (s9 23 0) x2)) fun s10 => zc_laySets_j98 N x1 x2 π s10
def zc_laySets_b30 (N : Nat) (x1 x2 : Int) (π : ZS) (s0 : ZS) : Option ((Int × ZS) ⊕ (ZS)) :=
  zk_g (0 ≤ (s0 7 0) ∧ (s0 7 0) < 31) (zk_g (zk_R x2 ∧ zk_R (1 * 2 ^ (s0 7 0 : Int).toNat)) (if (1 * 2 ^ (s0 7 0 : Int).toNat) ≤ x2 then (some (.inr (s0))) else (zk_b (zc_daringOf N x2 π s0) fun v5 => zk_g (zk_R v5 ∧ zk_R x1) (if v5 = x1 then (zk_g (zk_R (s0 20 0)) (if (s0 20 0) = 0 then (zc_laySets_j65 N x1 x2 x2 π s0) else (zc_laySets_j65 N x1 x2 (s0 21 0) π s0))) else (zc_laySets_j98 N x1 x2 π s0)))))
def zc_laySets_j104 (N : Nat) (π : ZS) (s0 : ZS) : Option (Int × ZS) :=
  some (0, s0)
def zc_laySets (N : Nat) (p1 : Int) (π : ZS) (σ : ZS) : Option (Int × ZS) :=
  zk_n (zk_u σ 20 0 0) fun s1 => zk_n (zk_u s1 21 0 (-9)) fun s2 => zk_g (0 ≤ (s2 7 0) ∧ (s2 7 0) < 31) (zk_n (zk_u s2 22 0 ((1 * 2 ^ (s2 7 0 : Int).toNat) - 1)) fun s3 => zk_n (zk_u s3 23 0 0) fun s4 => zk_b (zk_loop (α := Int × ZS) (β := ZS) N (fun a => zc_laySets_b30 N p1 a.1 π a.2) (0, s4)) (fun e => zc_laySets_j104 N π e))
def zc_fraction_b6 (N : Nat) (x1 x3 x5 x7 : Int) (π : ZS) (s0 : ZS) : Option ((Int × Int) ⊕ (Int)) :=
  zk_g (zk_Q64 x7) (if x7 = 0 then (some (.inr (x5))) else (zk_g ((0 ≤ x5 ∧ x5 ≤ 9223372036854775807) ∧ (0 < x7 ∧ x7 ≤ 9223372036854775807)) (zk_n (α := Int) (x5 % x7) fun x9_1 => some (.inl (x7, x9_1)))))
def zc_fraction_j31 (N : Nat) (x1 x3 x5 : Int) (π : ZS) (s0 : ZS) : Option (Int × ZS) :=
  zk_g ((0 ≤ x1 ∧ x1 ≤ 9223372036854775807) ∧ (0 < x5 ∧ x5 ≤ 9223372036854775807)) (zk_n (zk_u s0 3 0 (x1 / x5)) fun s2 => zk_g ((0 ≤ x3 ∧ x3 ≤ 9223372036854775807) ∧ (0 < x5 ∧ x5 ≤ 9223372036854775807)) (zk_n (zk_u s2 4 0 (x3 / x5)) fun s3 => some (1, s3)))
def zc_fraction (N : Nat) (p1 p3 : Int) (π : ZS) (σ : ZS) : Option (Int × ZS) :=
  zk_b (zk_loop (α := Int × Int) (β := Int) N (fun a => zc_fraction_b6 N p1 p3 a.1 a.2 π σ) (p1, p3)) (fun e => zc_fraction_j31 N p1 p3 e π σ)
def zc_sets (N : Nat) (p1 : Int) (π : ZS) (σ : ZS) : Option (Int × ZS) :=
  zk_b (zc_in p1 0 120) fun v1 => zk_b (zc_need v1 π σ) fun v2 => zk_g (zk_R v2) (if 0 ≤ v2 then (zk_b2 (zc_laySets N p1 π σ) fun v3 s4 => zk_g (zk_R (s4 20 0)) (zk_b2 (zc_fraction N (s4 20 0) 1 π s4) fun v5 s6 => zk_b2 (zc_say (s6 21 0) 1 π s6) fun v7 s8 => some (v7, s8))) else (some (v2, σ)))
def zc_sure (N : Nat) (p1 : Int) (π : ZS) (σ : ZS) : Option (Int × ZS) :=
  zk_b (zc_in p1 0 120) fun v1 => zk_b (zc_need v1 π σ) fun v2 => zk_g (zk_R v2) (if 0 ≤ v2 then (zk_b2 (zc_laySets N p1 π σ) fun v3 s4 => zk_g (zk_R (s4 20 0)) (if (s4 20 0) = 0 then (zk_b2 (zc_found 4 π s4) fun v7 s8 => some (v7, s8)) else (zk_g (0 ≤ (s4 7 0) ∧ (s4 7 0) < 31) (zk_b2 (zc_say (zk_and ((1 * 2 ^ (s4 7 0 : Int).toNat) - 1) (zk_xor (s4 23 0) (-1))) (s4 22 0) π s4) fun v5 s6 => some (v5, s6))))) else (some (v2, σ)))
def zc_partOf_j34 (N : Nat) (x1 x2 x5 y0 y1 : Int) (π : ZS) (σ : ZS) : Option ((Int × Int) ⊕ (Int)) :=
  zk_n (α := Int) (y0 * y1) fun x3_2 => zk_n (α := Int) (x5 + 1) fun x5_3 => some (.inl (x3_2, x5_3))
def zc_partOf_b5 (N : Nat) (x1 x2 x3 x5 : Int) (π : ZS) (σ : ZS) : Option ((Int × Int) ⊕ (Int)) :=
  zk_g (zk_R x5 ∧ zk_R (σ 7 0)) (if (σ 7 0) ≤ x5 then (some (.inr (x3))) else (zk_b (zc_has x1 x5) fun v1 => zk_g (zk_R v1) (if v1 = 0 then (zk_g (zk_R (12 - x2)) (zc_partOf_j34 N x1 x2 x5 x3 (12 - x2) π σ)) else (zk_g (zk_R x2) (zc_partOf_j34 N x1 x2 x5 x3 x2 π σ)))))
def zc_partOf_j42 (N : Nat) (x3 : Int) (π : ZS) (σ : ZS) : Option (Int) :=
  some x3
def zc_partOf (N : Nat) (p1 p2 : Int) (π : ZS) (σ : ZS) : Option (Int) :=
  zk_b (zk_loop (α := Int × Int) (β := Int) N (fun a => zc_partOf_b5 N p1 p2 a.1 a.2 π σ) (1, 0)) (fun e => zc_partOf_j42 N e π σ)
def zc_whole_b4 (N : Nat) (x1 x3 : Int) (π : ZS) (σ : ZS) : Option ((Int × Int) ⊕ (Int)) :=
  zk_g (zk_R x3 ∧ zk_R (σ 7 0)) (if (σ 7 0) ≤ x3 then (some (.inr (x1))) else (zk_n (α := Int) (x1 * 12) fun x1_1 => zk_n (α := Int) (x3 + 1) fun x3_2 => some (.inl (x1_1, x3_2))))
def zc_whole_j24 (N : Nat) (x1 : Int) (π : ZS) (σ : ZS) : Option (Int) :=
  some x1
def zc_whole (N : Nat) (π : ZS) (σ : ZS) : Option (Int) :=
  zk_b (zk_loop (α := Int × Int) (β := Int) N (fun a => zc_whole_b4 N a.1 a.2 π σ) (1, 0)) (fun e => zc_whole_j24 N e π σ)
def zc_odds_j59 (N : Nat) (x1 x2 x5 y0 y1 : Int) (π : ZS) (s0 : ZS) : Option ((Int × Int) ⊕ (Int)) :=
  zk_n (α := Int) (y0 + y1) fun x3_5 => zk_n (α := Int) (x5 + 1) fun x5_6 => some (.inl (x3_5, x5_6))
def zc_odds_b25 (N : Nat) (x1 x2 x3 x5 : Int) (π : ZS) (s0 : ZS) : Option ((Int × Int) ⊕ (Int)) :=
  zk_g (0 ≤ (s0 7 0) ∧ (s0 7 0) < 31) (zk_g (zk_R x5 ∧ zk_R (1 * 2 ^ (s0 7 0 : Int).toNat)) (if (1 * 2 ^ (s0 7 0 : Int).toNat) ≤ x5 then (some (.inr (x3))) else (zk_b (zc_hasIt N 0 x5 π s0) fun v3 => zk_g (zk_R v3 ∧ zk_R x1) (if v3 = x1 then (zk_b (zc_partOf N x5 x2 π s0) fun v4 => zc_odds_j59 N x1 x2 x5 x3 v4 π s0) else (zc_odds_j59 N x1 x2 x5 x3 0 π s0)))))
def zc_odds_j67 (N : Nat) (x3 : Int) (π : ZS) (s0 : ZS) : Option (Int × ZS) :=
  zk_b (zc_whole N π s0) fun v7 => zk_b2 (zc_fraction N x3 v7 π s0) fun v8 s9 => some (v8, s9)
def zc_odds (N : Nat) (p1 p2 : Int) (π : ZS) (σ : ZS) : Option (Int × ZS) :=
  zk_b (zc_isOne p1 π σ) fun v1 => zk_g (zk_R v1) (if v1 = 0 then (some ((-1), σ)) else (zk_b (zc_in p2 0 12) fun v2 => zk_g (zk_R v2) (if v2 = 0 then (some ((-1), σ)) else (zk_b (zk_loop (α := Int × Int) (β := Int) N (fun a => zc_odds_b25 N p1 p2 a.1 a.2 π σ) (0, 0)) (fun e => zc_odds_j67 N e π σ)))))
def zc_farSum_j51 (N : Nat) (x1 x2 x3 x5 y0 : Int) (π : ZS) (σ : ZS) : Option ((Int × Int) ⊕ (Int)) :=
  zk_b (zc_partOf N x5 x2 π σ) fun v2 => zk_g (zk_R (y0 - x1)) (zk_g (zk_R (if (y0 - x1) < 0 then -(y0 - x1) else (y0 - x1))) (zk_n (α := Int) (x3 + (v2 * (if (y0 - x1) < 0 then -(y0 - x1) else (y0 - x1)))) fun x3_3 => zk_n (α := Int) (x5 + 1) fun x5_4 => some (.inl (x3_3, x5_4))))
def zc_farSum_b5 (N : Nat) (x1 x2 x3 x5 : Int) (π : ZS) (σ : ZS) : Option ((Int × Int) ⊕ (Int)) :=
  zk_g (0 ≤ (σ 7 0) ∧ (σ 7 0) < 31) (zk_g (zk_R x5 ∧ zk_R (1 * 2 ^ (σ 7 0 : Int).toNat)) (if (1 * 2 ^ (σ 7 0 : Int).toNat) ≤ x5 then (some (.inr (x3))) else (zk_b (zc_hasIt N 0 x5 π σ) fun v1 => zk_g (zk_R v1) (if v1 = (-9) then (zk_g (0 ≤ (1 : Int) ∧ (1 : Int) < 160) (zc_farSum_j51 N x1 x2 x3 x5 (σ 9 1) π σ)) else (zk_g (0 ≤ (8 + v1) ∧ (8 + v1) < 160) (zc_farSum_j51 N x1 x2 x3 x5 (σ 9 (8 + v1)) π σ))))))
def zc_farSum_j78 (N : Nat) (x3 : Int) (π : ZS) (σ : ZS) : Option (Int) :=
  some x3
def zc_farSum (N : Nat) (p1 p2 : Int) (π : ZS) (σ : ZS) : Option (Int) :=
  zk_b (zk_loop (α := Int × Int) (β := Int) N (fun a => zc_farSum_b5 N p1 p2 a.1 a.2 π σ) (0, 0)) (fun e => zc_farSum_j78 N e π σ)
def zc_mid_j26 (N : Nat) (x1 x2 y0 : Int) (π : ZS) (s0 : ZS) : Option (Int × ZS) :=
  zk_b (zc_need y0 π s0) fun v3 => zk_g (zk_R v3) (if 0 ≤ v3 then (zk_b (zc_farSum N x1 x2 π s0) fun v4 => zk_b (zc_whole N π s0) fun v5 => zk_b2 (zc_fraction N v4 v5 π s0) fun v6 s7 => some (v6, s7)) else (some (v3, s0)))
def zc_mid_j25 (N : Nat) (x1 x2 : Int) (π : ZS) (s0 : ZS) : Option (Int × ZS) :=
  zc_mid_j26 N x1 x2 0 π s0
def zc_mid (N : Nat) (p1 p2 : Int) (π : ZS) (σ : ZS) : Option (Int × ZS) :=
  zk_b (zc_in p1 0 9) fun v1 => zk_g (zk_R v1) (if v1 = 0 then (zc_mid_j25 N p1 p2 π σ) else (zk_b (zc_in p2 0 12) fun v2 => zk_g (zk_R v2) (if v2 = 0 then (zc_mid_j25 N p1 p2 π σ) else (zc_mid_j26 N p1 p2 1 π σ))))
def zc_fair_b31 (N : Nat) (x1 x3 x4 x6 : Int) (π : ZS) (s0 : ZS) : Option ((Int × Int × Int) ⊕ (Int × Int)) :=
  zk_g (zk_R x6) (if 10 ≤ x6 then (some (.inr (x3, x4))) else (zk_b (zc_farSum N x6 x1 π s0) fun v4 => zk_g (zk_Q64 v4 ∧ zk_Q64 x4) (zk_n (α := Int) (if x4 ≤ v4 then x3 else x6) fun x3_5 => zk_g (zk_Q64 x4 ∧ zk_Q64 v4) (zk_n (α := Int) (min x4 v4) fun x4_6 => zk_n (α := Int) (x6 + 1) fun x6_7 => some (.inl (x3_5, x4_6, x6_7))))))
def zc_fair_j77 (N : Nat) (x3 x4 : Int) (π : ZS) (s0 : ZS) : Option (Int × ZS) :=
  zk_b (zc_whole N π s0) fun v8 => zk_b2 (zc_fraction N x4 v8 π s0) fun v9 s10 => some (x3, s10)
def zc_fair (N : Nat) (p1 : Int) (π : ZS) (σ : ZS) : Option (Int × ZS) :=
  zk_b (zc_in p1 0 12) fun v1 => zk_b (zc_need v1 π σ) fun v2 => zk_g (zk_R v2) (if 0 ≤ v2 then (zk_b (zc_farSum N 0 p1 π σ) fun v3 => zk_b (zk_loop (α := Int × Int × Int) (β := Int × Int) N (fun a => zc_fair_b31 N p1 a.1 a.2.1 a.2.2 π σ) (0, v3, 1)) (fun e => zc_fair_j77 N e.1 e.2 π σ)) else (some (v2, σ)))
def zc_does (N : Nat) (p1 p2 p3 : Int) (π : ZS) (σ : ZS) : Option (Int × ZS) :=
  zk_g ((0 ≤ p3 ∧ p3 ≤ 9223372036854775807) ∧ (0 < (5 : Int) ∧ (5 : Int) ≤ 9223372036854775807)) (zk_n (α := Int) (1 + (p3 % 5)) fun x5_1 => zk_g (zk_R p1) (if 2 ≤ p1 then (zk_g (zk_R p1) (if p1 = 2 then (zk_g (0 ≤ (2 + p2) ∧ (2 + p2) < 160) (zk_g (zk_R 0 ∧ zk_R (σ 9 (2 + p2) - x5_1)) (zk_g (0 ≤ (2 + p2) ∧ (2 + p2) < 160) (zk_n (zk_u σ 9 (2 + p2) (max 0 (σ 9 (2 + p2) - x5_1))) fun s5 => some (0, s5))))) else (zk_g (zk_R p1) (if p1 = 3 then (zk_g ((0 ≤ p3 ∧ p3 ≤ 9223372036854775807) ∧ (0 < (10 : Int) ∧ (10 : Int) ≤ 9223372036854775807)) (zk_g (0 ≤ (8 + p2) ∧ (8 + p2) < 160) (zk_n (zk_u σ 9 (8 + p2) (p3 % 10)) fun s4 => some (0, s4)))) else (zk_b2 (zc_passes N 0 π σ) fun v2 s3 => some (0, s3)))))) else (zk_g (0 ≤ (2 + p2) ∧ (2 + p2) < 160) (zk_g (zk_R 20 ∧ zk_R (σ 9 (2 + p2) + x5_1)) (zk_g (0 ≤ (2 + p2) ∧ (2 + p2) < 160) (zk_n (zk_u σ 9 (2 + p2) (min 20 (σ 9 (2 + p2) + x5_1))) fun s6 => some (0, s6)))))))
def zc_lots_b58 (N : Nat) (x1 x4 x6 : Int) (π : ZS) (s0 : ZS) : Option ((Int × Int × ZS) ⊕ (ZS)) :=
  zk_g (zk_R x6 ∧ zk_R x1) (if x1 ≤ x6 then (some (.inr (s0))) else (zk_g ((0 ≤ (48271 * x4) ∧ (48271 * x4) ≤ 9223372036854775807) ∧ (0 < (2147483647 : Int) ∧ (2147483647 : Int) ≤ 9223372036854775807)) (zk_n (α := Int) ((48271 * x4) % 2147483647) fun x4_4 => zk_b2 (zc_remember π s0) fun v5 s6 => zk_g ((0 ≤ x4_4 ∧ x4_4 ≤ 9223372036854775807) ∧ (0 < (8 : Int) ∧ (8 : Int) ≤ 9223372036854775807)) (zk_g ((0 ≤ (x4_4 / 8) ∧ (x4_4 / 8) ≤ 9223372036854775807) ∧ (0 < (8 : Int) ∧ (8 : Int) ≤ 9223372036854775807)) (zk_g (zk_R (s6 7 0)) (zk_g ((0 ≤ x4_4 ∧ x4_4 ≤ 9223372036854775807) ∧ (0 < (s6 7 0) ∧ (s6 7 0) ≤ 9223372036854775807)) (zk_g ((0 ≤ x4_4 ∧ x4_4 ≤ 9223372036854775807) ∧ (0 < (64 : Int) ∧ (64 : Int) ≤ 9223372036854775807)) (zk_b2 (zc_does N ((x4_4 / 8) % 8) (x4_4 % (s6 7 0)) (x4_4 / 64) π s6) fun v7 s8 => zk_n (α := Int) (x6 + 1) fun x6_9 => some (.inl (x4_4, x6_9, s8))))))))))
def zc_lots_j116 (N : Nat) (π : ZS) (s0 : ZS) : Option (Int × ZS) :=
  zk_g (0 ≤ (1 : Int) ∧ (1 : Int) < 160) (some (s0 9 1, s0))
def zc_lots_j27 (N : Nat) (x1 x2 y0 : Int) (π : ZS) (s0 : ZS) : Option (Int × ZS) :=
  zk_b (zc_need y0 π s0) fun v3 => zk_g (zk_R v3) (if 0 ≤ v3 then (zk_g (zk_R (s0 14 0 + x1)) (if (s0 14 0 + x1) ≤ 40 then (zk_g (zk_R x2) (zk_b (zk_loop (α := Int × Int × ZS) (β := ZS) N (fun a => zc_lots_b58 N x1 a.1 a.2.1 π a.2.2) (x2, 0, s0)) (fun e => zc_lots_j116 N π e))) else (some ((-2), s0)))) else (some (v3, s0)))
def zc_lots_j26 (N : Nat) (x1 x2 : Int) (π : ZS) (s0 : ZS) : Option (Int × ZS) :=
  zc_lots_j27 N x1 x2 0 π s0
def zc_lots (N : Nat) (p1 p2 : Int) (π : ZS) (σ : ZS) : Option (Int × ZS) :=
  zk_b (zc_in p1 1 20) fun v1 => zk_g (zk_R v1) (if v1 = 0 then (zc_lots_j26 N p1 p2 π σ) else (zk_b (zc_in p2 1 2147483646) fun v2 => zk_g (zk_R v2) (if v2 = 0 then (zc_lots_j26 N p1 p2 π σ) else (zc_lots_j27 N p1 p2 1 π σ))))
def zc_counted_j92 (N : Nat) (x1 x3 y0 y1 : Int) (π : ZS) (σ : ZS) : Option ((Int × Int) ⊕ (Int)) :=
  zk_n (α := Int) (y0 + y1) fun x2_2 => zk_n (α := Int) (x3 + 1) fun x3_3 => some (.inl (x2_2, x3_3))
def zc_counted_j91 (N : Nat) (x1 x3 y0 : Int) (π : ZS) (σ : ZS) : Option ((Int × Int) ⊕ (Int)) :=
  zc_counted_j92 N x1 x3 y0 0 π σ
def zc_counted_j69 (N : Nat) (x1 x3 y0 : Int) (π : ZS) (σ : ZS) : Option ((Int × Int) ⊕ (Int)) :=
  zk_g (zk_R x1) (if x1 = 8 then (zk_g ((0 ≤ x3 ∧ x3 < 6) ∧ (0 ≤ π 8 x3 ∧ π 8 x3 ≤ 5)) (zk_g ((0 ≤ x3 ∧ x3 < 6) ∧ (0 ≤ π 8 x3 ∧ π 8 x3 ≤ 5)) (zk_g (zk_R (if π 8 x3 = 3 ∨ π 8 x3 = 4 then 1 else 0)) (if (if π 8 x3 = 3 ∨ π 8 x3 = 4 then 1 else 0) = 0 then (zc_counted_j91 N x1 x3 y0 π σ) else (zc_counted_j92 N x1 x3 y0 1 π σ))))) else (zc_counted_j91 N x1 x3 y0 π σ))
def zc_counted_j48 (N : Nat) (x1 x3 y0 y1 : Int) (π : ZS) (σ : ZS) : Option ((Int × Int) ⊕ (Int)) :=
  zk_n (α := Int) (y0 + y1) fun x2_1 => zk_g (zk_R x1) (if x1 = 7 then (zk_g ((0 ≤ x3 ∧ x3 < 6) ∧ (0 ≤ π 8 x3 ∧ π 8 x3 ≤ 5)) (zk_g ((0 ≤ x3 ∧ x3 < 6) ∧ (0 ≤ π 8 x3 ∧ π 8 x3 ≤ 5)) (zk_g (zk_R (if π 8 x3 = 2 ∨ π 8 x3 = 5 then 1 else 0)) (if (if π 8 x3 = 2 ∨ π 8 x3 = 5 then 1 else 0) = 0 then (zc_counted_j69 N x1 x3 x2_1 π σ) else (zc_counted_j92 N x1 x3 x2_1 1 π σ))))) else (zc_counted_j69 N x1 x3 x2_1 π σ))
def zc_counted_b4 (N : Nat) (x1 x2 x3 : Int) (π : ZS) (σ : ZS) : Option ((Int × Int) ⊕ (Int)) :=
  zk_g (zk_R x3 ∧ zk_R (σ 7 0)) (if (σ 7 0) ≤ x3 then (some (.inr (x2))) else (zk_g (zk_R x1) (if x1 = 5 then (zk_g (0 ≤ (2 + x3) ∧ (2 + x3) < 160) (zc_counted_j48 N x1 x3 x2 (σ 9 (2 + x3)) π σ)) else (zk_g (zk_R x1) (if x1 = 6 then (zk_g (0 ≤ (14 + x3) ∧ (14 + x3) < 160) (zc_counted_j48 N x1 x3 x2 (σ 9 (14 + x3)) π σ)) else (zc_counted_j48 N x1 x3 x2 0 π σ))))))
def zc_counted_j129 (N : Nat) (x1 x3 y0 y1 : Int) (π : ZS) (σ : ZS) : Option ((Int × Int) ⊕ (Int)) :=
  zk_n (α := Int) (y0 + y1) fun x2_4 => zk_n (α := Int) (x3 + 1) fun x3_5 => some (.inl (x2_4, x3_5))
def zc_counted_j128 (N : Nat) (x1 x3 y0 : Int) (π : ZS) (σ : ZS) : Option ((Int × Int) ⊕ (Int)) :=
  zc_counted_j129 N x1 x3 y0 0 π σ
def zc_counted_b102 (N : Nat) (x1 x2 x3 : Int) (π : ZS) (σ : ZS) : Option ((Int × Int) ⊕ (Int)) :=
  zk_g (zk_R x3) (if 6 ≤ x3 then (some (.inr (x2))) else (zk_g (zk_R x1) (if x1 = 9 then (zk_g (0 ≤ x3 ∧ x3 < 6) (if 0 ≤ π 5 x3 then (zc_counted_j129 N x1 x3 x2 1 π σ) else (zc_counted_j128 N x1 x3 x2 π σ))) else (zc_counted_j128 N x1 x3 x2 π σ))))
def zc_counted_j165 (N : Nat) (x1 x3 y0 y1 : Int) (π : ZS) (σ : ZS) : Option ((Int × Int) ⊕ (Int)) :=
  zk_n (α := Int) (y0 + y1) fun x2_6 => zk_n (α := Int) (x3 + 1) fun x3_7 => some (.inl (x2_6, x3_7))
def zc_counted_j164 (N : Nat) (x1 x3 y0 : Int) (π : ZS) (σ : ZS) : Option ((Int × Int) ⊕ (Int)) :=
  zc_counted_j165 N x1 x3 y0 0 π σ
def zc_counted_b139 (N : Nat) (x1 x2 x3 : Int) (π : ZS) (σ : ZS) : Option ((Int × Int) ⊕ (Int)) :=
  zk_g (zk_R x3) (if 4 ≤ x3 then (some (.inr (x2))) else (zk_g (zk_R x1) (if x1 = 10 then (zk_g (0 ≤ x3 ∧ x3 < 4) (if 0 ≤ π 6 x3 then (zc_counted_j165 N x1 x3 x2 1 π σ) else (zc_counted_j164 N x1 x3 x2 π σ))) else (zc_counted_j164 N x1 x3 x2 π σ))))
def zc_counted_j205 (N : Nat) (x1 x3 y0 y1 : Int) (π : ZS) (σ : ZS) : Option ((Int × Int) ⊕ (Int)) :=
  zk_n (α := Int) (y0 + y1) fun x2_8 => zk_n (α := Int) (x3 + 1) fun x3_9 => some (.inl (x2_8, x3_9))
def zc_counted_j204 (N : Nat) (x1 x3 y0 : Int) (π : ZS) (σ : ZS) : Option ((Int × Int) ⊕ (Int)) :=
  zc_counted_j205 N x1 x3 y0 0 π σ
def zc_counted_b175 (N : Nat) (x1 x2 x3 : Int) (π : ZS) (σ : ZS) : Option ((Int × Int) ⊕ (Int)) :=
  zk_g (zk_R x3) (if 3 ≤ x3 then (some (.inr (x2))) else (zk_g (zk_R x1) (if x1 = 11 then (zk_g (0 ≤ x3 ∧ x3 < 3) (if 0 ≤ π 16 x3 then (zc_counted_j205 N x1 x3 x2 1 π σ) else (zc_counted_j204 N x1 x3 x2 π σ))) else (zc_counted_j204 N x1 x3 x2 π σ))))
def zc_counted_j229 (N : Nat) (x1 x2 y0 : Int) (π : ZS) (σ : ZS) : Option (Int) :=
  zk_g (zk_R x1) (if x1 = 0 then (some (σ 7 0)) else if x1 = 1 then (zk_g (0 ≤ (0 : Int) ∧ (0 : Int) < 160) (some (σ 9 0))) else if x1 = 2 then (some (σ 14 0)) else if x1 = 3 then (zk_g (0 ≤ (1 : Int) ∧ (1 : Int) < 160) (some (σ 9 1))) else if x1 = 4 then (zk_g (zk_R y0) (if y0 = (-9) then (some 0) else (zk_g (0 ≤ y0 ∧ y0 < 31) (some (1 * 2 ^ y0.toNat))))) else (some x2))
def zc_counted_j213 (N : Nat) (x1 x2 : Int) (π : ZS) (σ : ZS) : Option (Int) :=
  zk_g (zk_R x1) (if x1 = 4 then (zk_b (zc_hasIt N 0 0 π σ) fun v10 => zc_counted_j229 N x1 x2 v10 π σ) else (zc_counted_j229 N x1 x2 (-9) π σ))
def zc_counted_j173 (N : Nat) (x1 x2 : Int) (π : ZS) (σ : ZS) : Option (Int) :=
  zk_b (zk_loop (α := Int × Int) (β := Int) N (fun a => zc_counted_b175 N x1 a.1 a.2 π σ) (x2, 0)) (fun e => zc_counted_j213 N x1 e π σ)
def zc_counted_j137 (N : Nat) (x1 x2 : Int) (π : ZS) (σ : ZS) : Option (Int) :=
  zk_b (zk_loop (α := Int × Int) (β := Int) N (fun a => zc_counted_b139 N x1 a.1 a.2 π σ) (x2, 0)) (fun e => zc_counted_j173 N x1 e π σ)
def zc_counted_j100 (N : Nat) (x1 x2 : Int) (π : ZS) (σ : ZS) : Option (Int) :=
  zk_b (zk_loop (α := Int × Int) (β := Int) N (fun a => zc_counted_b102 N x1 a.1 a.2 π σ) (x2, 0)) (fun e => zc_counted_j137 N x1 e π σ)
def zc_counted (N : Nat) (p1 : Int) (π : ZS) (σ : ZS) : Option (Int) :=
  zk_b (zk_loop (α := Int × Int) (β := Int) N (fun a => zc_counted_b4 N p1 a.1 a.2 π σ) (0, 0)) (fun e => zc_counted_j100 N p1 e π σ)
def zc_count (N : Nat) (p1 : Int) (π : ZS) (σ : ZS) : Option (Int) :=
  zk_b (zc_in p1 0 11) fun v1 => zk_g (zk_R v1) (if v1 = 0 then (some (-1)) else (zk_b (zc_counted N p1 π σ) fun v2 => some v2))
def zc_finding (π : ZS) (σ : ZS) : Option (Int) :=
  some (σ 0 0)
def zc_findings (p1 : Int) (π : ZS) (σ : ZS) : Option (Int) :=
  zk_b (zc_in p1 1 5) fun v1 => zk_g (zk_R v1) (if v1 = 0 then (some (-1)) else (zk_g (0 ≤ p1 ∧ p1 < 6) (some (σ 1 p1))))
def zc_add (p1 : Int) (π : ZS) (σ : ZS) : Option (Int × ZS) :=
  zk_n (zk_u σ 24 0 (31 * (σ 24 0) + p1)) fun s1 => some (0, s1)
def zc_addRiver_b12 (N : Nat) (x1 x2 : Int) (π : ZS) (s0 : ZS) : Option ((Int × ZS) ⊕ (ZS)) :=
  zk_g (zk_R x2) (if 6 ≤ x2 then (some (.inr (s0))) else (zk_b (zc_oneTells x1 x2 π s0) fun v1 => zk_g (zk_R v1) (zk_b2 (zc_add v1 π s0) fun v2 s3 => zk_n (α := Int) (x2 + 1) fun x2_4 => some (.inl (x2_4, s3)))))
def zc_addRiver_j35 (N : Nat) (x1 : Int) (π : ZS) (s0 : ZS) : Option ((Int × ZS) ⊕ (ZS)) :=
  zk_n (α := Int) (x1 + 1) fun x1_5 => some (.inl (x1_5, s0))
def zc_addRiver_b2 (N : Nat) (x1 : Int) (π : ZS) (s0 : ZS) : Option ((Int × ZS) ⊕ (ZS)) :=
  zk_g (zk_R x1 ∧ zk_R (s0 7 0)) (if (s0 7 0) ≤ x1 then (some (.inr (s0))) else (zk_b (zk_loop (α := Int × ZS) (β := ZS) N (fun a => zc_addRiver_b12 N x1 a.1 π a.2) (0, s0)) (fun e => zc_addRiver_j35 N x1 π e)))
def zc_addRiver_j77 (N : Nat) (x1 y0 : Int) (π : ZS) (s0 : ZS) : Option ((Int × ZS) ⊕ (ZS)) :=
  zk_b2 (zc_add y0 π s0) fun v6 s7 => zk_n (α := Int) (x1 + 1) fun x1_8 => some (.inl (x1_8, s7))
def zc_addRiver_b43 (N : Nat) (x1 : Int) (π : ZS) (s0 : ZS) : Option ((Int × ZS) ⊕ (ZS)) :=
  zk_g (zk_R x1) (if 3 ≤ x1 then (some (.inr (s0))) else (zk_g (0 ≤ x1 ∧ x1 < 3) (if 0 ≤ π 16 x1 then (zk_g ((0 ≤ x1 ∧ x1 < 3) ∧ 0 ≤ π 16 x1) (zk_g ((0 ≤ x1 ∧ x1 < 3) ∧ (0 ≤ (0 : Int) ∧ 0 < π 16 x1) ∧ (0 : Int) ≤ 2147483647) (zk_g (zk_R (s0 (300 + x1.toNat) 0)) (zc_addRiver_j77 N x1 (s0 (300 + x1.toNat) 0) π s0)))) else (zc_addRiver_j77 N x1 (-1) π s0))))
def zc_addRiver_j86 (N : Nat) (π : ZS) (s0 : ZS) : Option (Int × ZS) :=
  some (0, s0)
def zc_addRiver_j41 (N : Nat) (π : ZS) (s0 : ZS) : Option (Int × ZS) :=
  zk_b (zk_loop (α := Int × ZS) (β := ZS) N (fun a => zc_addRiver_b43 N a.1 π a.2) (0, s0)) (fun e => zc_addRiver_j86 N π e)
def zc_addRiver (N : Nat) (π : ZS) (σ : ZS) : Option (Int × ZS) :=
  zk_b (zk_loop (α := Int × ZS) (β := ZS) N (fun a => zc_addRiver_b2 N a.1 π a.2) (0, σ)) (fun e => zc_addRiver_j41 N π e)
def zc_digest_b9 (N : Nat) (x1 : Int) (π : ZS) (s0 : ZS) : Option ((Int × ZS) ⊕ (ZS)) :=
  zk_g (zk_R x1) (if 12 ≤ x1 then (some (.inr (s0))) else (zk_b (zc_counted N x1 π s0) fun v2 => zk_g (zk_R v2) (zk_b2 (zc_add v2 π s0) fun v3 s4 => zk_n (α := Int) (x1 + 1) fun x1_5 => some (.inl (x1_5, s4)))))
def zc_digest_b69 (N : Nat) (x1 x2 x3 : Int) (π : ZS) (s0 : ZS) : Option ((Int × ZS) ⊕ (ZS)) :=
  zk_g ((0 ≤ x2 ∧ x2 < 6) ∧ 0 ≤ π 5 x2) (zk_g (zk_R x3 ∧ zk_R (π 5 x2)) (if (π 5 x2) ≤ x3 then (some (.inr (s0))) else (zk_g ((0 ≤ x2 ∧ x2 < 6) ∧ (0 ≤ x3 ∧ x3 < π 5 x2) ∧ x3 ≤ 2147483647) (zk_g (zk_R (s0 (100 + x2.toNat) x3)) (zk_b2 (zc_add (s0 (100 + x2.toNat) x3) π s0) fun v13 s14 => zk_n (α := Int) (x3 + 1) fun x3_15 => some (.inl (x3_15, s14)))))))
def zc_digest_j93 (N : Nat) (x1 : Int) (π : ZS) (s0 : ZS) : Option ((Int × ZS) ⊕ (ZS)) :=
  zk_n (α := Int) (x1 + 1) fun x1_12 => some (.inl (x1_12, s0))
def zc_digest_j64 (N : Nat) (x1 x2 y0 : Int) (π : ZS) (s0 : ZS) : Option ((Int × ZS) ⊕ (ZS)) :=
  zk_b2 (zc_add y0 π s0) fun v10 s11 => zk_b (zk_loop (α := Int × ZS) (β := ZS) N (fun a => zc_digest_b69 N x1 x2 a.1 π a.2) (0, s11)) (fun e => zc_digest_j93 N x1 π e)
def zc_digest_b69n (N : Nat) (x1 x3 : Int) (π : ZS) (s0 : ZS) : Option ((Int × ZS) ⊕ (ZS)) :=
  some (.inr (s0))
def zc_digest_j64n (N : Nat) (x1 y0 : Int) (π : ZS) (s0 : ZS) : Option ((Int × ZS) ⊕ (ZS)) :=
  zk_b2 (zc_add y0 π s0) fun v8 s9 => zk_b (zk_loop (α := Int × ZS) (β := ZS) N (fun a => zc_digest_b69n N x1 a.1 π a.2) (0, s9)) (fun e => zc_digest_j93 N x1 π e)
def zc_digest_b37 (N : Nat) (x1 : Int) (π : ZS) (s0 : ZS) : Option ((Int × ZS) ⊕ (ZS)) :=
  zk_g (zk_R x1) (if 6 ≤ x1 then (some (.inr (s0))) else (zk_g (0 ≤ x1 ∧ x1 < 6) (if 0 ≤ π 5 x1 then (zk_g ((0 ≤ x1 ∧ x1 < 6) ∧ 0 ≤ π 5 x1) (zk_g (zk_R (π 5 x1)) (zc_digest_j64 N x1 x1 (π 5 x1) π s0))) else (zc_digest_j64n N x1 (-1) π s0))))
def zc_digest_b132 (N : Nat) (x1 x2 x3 : Int) (π : ZS) (s0 : ZS) : Option ((Int × ZS) ⊕ (ZS)) :=
  zk_g ((0 ≤ x2 ∧ x2 < 4) ∧ 0 ≤ π 6 x2) (zk_g (zk_R x3 ∧ zk_R (π 6 x2)) (if (π 6 x2) ≤ x3 then (some (.inr (s0))) else (zk_g ((0 ≤ x2 ∧ x2 < 4) ∧ (0 ≤ x3 ∧ x3 < π 6 x2) ∧ x3 ≤ 2147483647) (zk_g (zk_R (s0 (200 + x2.toNat) x3)) (zk_b2 (zc_add (s0 (200 + x2.toNat) x3) π s0) fun v21 s22 => zk_n (α := Int) (x3 + 1) fun x3_23 => some (.inl (x3_23, s22)))))))
def zc_digest_j156 (N : Nat) (x1 : Int) (π : ZS) (s0 : ZS) : Option ((Int × ZS) ⊕ (ZS)) :=
  zk_n (α := Int) (x1 + 1) fun x1_20 => some (.inl (x1_20, s0))
def zc_digest_j127 (N : Nat) (x1 x2 y0 : Int) (π : ZS) (s0 : ZS) : Option ((Int × ZS) ⊕ (ZS)) :=
  zk_b2 (zc_add y0 π s0) fun v18 s19 => zk_b (zk_loop (α := Int × ZS) (β := ZS) N (fun a => zc_digest_b132 N x1 x2 a.1 π a.2) (0, s19)) (fun e => zc_digest_j156 N x1 π e)
def zc_digest_b132n (N : Nat) (x1 x3 : Int) (π : ZS) (s0 : ZS) : Option ((Int × ZS) ⊕ (ZS)) :=
  some (.inr (s0))
def zc_digest_j127n (N : Nat) (x1 y0 : Int) (π : ZS) (s0 : ZS) : Option ((Int × ZS) ⊕ (ZS)) :=
  zk_b2 (zc_add y0 π s0) fun v16 s17 => zk_b (zk_loop (α := Int × ZS) (β := ZS) N (fun a => zc_digest_b132n N x1 a.1 π a.2) (0, s17)) (fun e => zc_digest_j156 N x1 π e)
def zc_digest_b101 (N : Nat) (x1 : Int) (π : ZS) (s0 : ZS) : Option ((Int × ZS) ⊕ (ZS)) :=
  zk_g (zk_R x1) (if 4 ≤ x1 then (some (.inr (s0))) else (zk_g (0 ≤ x1 ∧ x1 < 4) (if 0 ≤ π 6 x1 then (zk_g ((0 ≤ x1 ∧ x1 < 4) ∧ 0 ≤ π 6 x1) (zk_g (zk_R (π 6 x1)) (zc_digest_j127 N x1 x1 (π 6 x1) π s0))) else (zc_digest_j127n N x1 (-1) π s0))))
def zc_digest_j162 (N : Nat) (π : ZS) (s0 : ZS) : Option (Int × ZS) :=
  some (s0 24 0, s0)
def zc_digest_j99 (N : Nat) (π : ZS) (s0 : ZS) : Option (Int × ZS) :=
  zk_b (zk_loop (α := Int × ZS) (β := ZS) N (fun a => zc_digest_b101 N a.1 π a.2) (0, s0)) (fun e => zc_digest_j162 N π e)
def zc_digest_j31 (N : Nat) (π : ZS) (s0 : ZS) : Option (Int × ZS) :=
  zk_b2 (zc_addRiver N π s0) fun v6 s7 => zk_b (zk_loop (α := Int × ZS) (β := ZS) N (fun a => zc_digest_b37 N a.1 π a.2) (0, s7)) (fun e => zc_digest_j99 N π e)
def zc_digest (N : Nat) (π : ZS) (σ : ZS) : Option (Int × ZS) :=
  zk_n (zk_u σ 24 0 17) fun s1 => zk_b (zk_loop (α := Int × ZS) (β := ZS) N (fun a => zc_digest_b9 N a.1 π a.2) (0, s1)) (fun e => zc_digest_j31 N π e)
