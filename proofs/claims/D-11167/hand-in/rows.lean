section
/-- the bit of turn i, counted down: 64 is turn 7, 0 is turn 0 -/
def tr_bit : Nat → Int32
  | 0 => 0
  | i + 1 => nI (2 ^ i)
theorem tr_half : ∀ i, i < 7 → tr_bit (i + 1) / 2 = tr_bit i := by decide +kernel
theorem tr_bpos : ∀ i, i < 7 → ¬ tr_bit (i + 1) ≤ 0 := by decide +kernel
theorem tr_up0 : ∀ x, x < 128 → ∀ i, i < 7 → (nI x &&& tr_bit (i + 1)) = 0 → nI x < ((nI x ||| tr_bit (i + 1)) &&& (-tr_bit (i + 1))) := by decide +kernel
theorem tr_dn0 : ∀ x, x < 128 → ∀ i, i < 7 → ¬ (nI x &&& tr_bit (i + 1)) = 0 → ((nI x - tr_bit (i + 1)) ||| (tr_bit (i + 1) - 1)) < nI x := by decide +kernel
theorem tr_nb0 : ∀ x, x < 128 → ∀ i, i < 7 → (nI x &&& tr_bit (i + 1)) = 0 ∨ ((nI x ^^^ (-1)) &&& tr_bit (i + 1)) = 0 := by decide +kernel
theorem tr_a3 (a c b : Int32) (h : (a &&& b) = 0) : ((a &&& c) &&& b) = 0 := by
  rw [Int32.and_comm a c, Int32.and_assoc, h, Int32.and_zero]
theorem tr_a4 (a c b : Int32) (h : (a &&& b) = 0) : ((c &&& a) &&& b) = 0 := by
  rw [Int32.and_assoc, h, Int32.and_zero]
theorem tr_upL {x i : Nat} {c : Int32} (hx : x < 128) (hi : i < 7) (h : ¬ (((nI x ^^^ (-1)) &&& c) &&& tr_bit (i + 1)) = 0) : nI x < ((nI x ||| tr_bit (i + 1)) &&& (-tr_bit (i + 1))) :=
  (tr_nb0 x hx i hi).elim (tr_up0 x hx i hi) (fun z => absurd (tr_a3 _ c _ z) h)
theorem tr_upR {x i : Nat} {c : Int32} (hx : x < 128) (hi : i < 7) (h : ¬ ((c &&& (nI x ^^^ (-1))) &&& tr_bit (i + 1)) = 0) : nI x < ((nI x ||| tr_bit (i + 1)) &&& (-tr_bit (i + 1))) :=
  (tr_nb0 x hx i hi).elim (tr_up0 x hx i hi) (fun z => absurd (tr_a4 _ c _ z) h)
theorem tr_dnL {x i : Nat} {c : Int32} (hx : x < 128) (hi : i < 7) (h : ¬ ((nI x &&& c) &&& tr_bit (i + 1)) = 0) : ((nI x - tr_bit (i + 1)) ||| (tr_bit (i + 1) - 1)) < nI x :=
  tr_dn0 x hx i hi (fun z => h (tr_a3 _ c _ z))
theorem tr_dnR {x i : Nat} {c : Int32} (hx : x < 128) (hi : i < 7) (h : ¬ ((c &&& nI x) &&& tr_bit (i + 1)) = 0) : ((nI x - tr_bit (i + 1)) ||| (tr_bit (i + 1) - 1)) < nI x :=
  tr_dn0 x hx i hi (fun z => h (tr_a4 _ c _ z))
theorem tr_and (a b : Nat) : (nI a &&& nI b) = nI (a &&& b) := by
  apply Int32.toBitVec_inj.1
  show BitVec.ofNat 32 a &&& BitVec.ofNat 32 b = BitVec.ofNat 32 (a &&& b)
  apply BitVec.eq_of_getLsbD_eq
  intro i hi
  simp [hi]
theorem tr_or (a b : Nat) : (nI a ||| nI b) = nI (a ||| b) := by
  apply Int32.toBitVec_inj.1
  show BitVec.ofNat 32 a ||| BitVec.ofNat 32 b = BitVec.ofNat 32 (a ||| b)
  apply BitVec.eq_of_getLsbD_eq
  intro i hi
  simp [hi]
theorem tr_c127 {x : Nat} (hx : x < 128) : 127 - nI x = nI (127 - x) := pk_sub (a := 127) (by omega)
theorem tr_dem0 : ∀ x, x < 128 → ∀ y, y < 128 → 127 - ((127 - x) ||| (127 - y)) = x &&& y := by decide +kernel
theorem tr_dem {x y : Nat} (hx : x < 128) (hy : y < 128) : 127 - (nI (127 - x) ||| nI (127 - y)) = (nI x &&& nI y) := by
  have h : ((127 - x) ||| (127 - y)) < 2 ^ 7 := Nat.or_lt_two_pow (by omega) (by omega)
  rw [tr_or, tr_c127 (by omega), tr_dem0 x hx y hy, tr_and]
theorem tr_sum (x y : Nat) (hx : x < 128) (hy : y < 128) : ((nI x + nI y) &&& 127) = nI ((x + y) % 128) := by
  rw [nI_add]
  exact pk_andN (n := x + y) (by omega) 7 (by decide)
theorem tr_dif0 : ∀ z, z < 256 → ((nI z - 128) &&& 127) = nI (z % 128) := by decide +kernel
theorem tr_dif1 {x y : Nat} (hy : y < 128) : nI x - nI y + 128 = nI (x + 128 - y) := by
  have h : nI (x + 128) - nI y = nI (x + 128 - y) := pk_sub (by omega)
  rw [← nI_add] at h
  rw [← h]
  show nI x - nI y + nI 128 = nI x + nI 128 - nI y
  grind
theorem tr_dif {x y : Nat} (hx : x < 128) (hy : y < 128) : ((nI x - nI y) &&& 127) = nI ((x + 128 - y) % 128) := by
  rw [← tr_dif0 (x + 128 - y) (by omega), ← tr_dif1 hy]
  congr 1
  grind
theorem tr_mlt {x y : Nat} (hx : x < 128) (hy : y < 128) : x * y < 2 ^ 31 := by
  have h := Nat.mul_lt_mul'' hx hy
  omega
theorem tr_mshr {x y : Nat} (hx : x < 128) (hy : y < 128) : ((nI x * nI y) >>> ((7 : Int32) &&& 31)) = (nI x * nI y) / 128 := by
  rw [pk_mul, pk_shrN (tr_mlt hx hy) _ 7 (by decide)]
  exact (pk_div (tr_mlt hx hy) (d := 128) (by decide) (by decide)).symm
theorem tr_dbl1 : ∀ x, x < 64 → 2 * nI x = ((nI x <<< ((1 : Int32) &&& 31)) &&& 127) := by decide +kernel
theorem tr_dbl2 : ∀ x, x < 128 → 64 ≤ x → 2 * nI x - 128 = ((nI x <<< ((1 : Int32) &&& 31)) &&& 127) := by decide +kernel
end
section
theorem tr_lor {post : Int32 → Prop} {x y : Nat} (hx : x < 128) (hy : y < 128) (hp : post (nI x ||| nI y)) : ∀ i, i ≤ 7 → wX_leastOr_4 post (nI x) (nI x) (nI y) (nI y) (i + 1) (tr_bit i) := by
  intro i
  induction i with
  | zero => exact fun _ => br_t (by decide +kernel) hp
  | succ i ih =>
    intro h
    have w := ih (by omega)
    have hi : i < 7 := by omega
    rw [← tr_half i hi] at w
    exact br_f (tr_bpos i hi) (br_c (fun _ => br_c (fun _ => ⟨by decide, nm_e w⟩) (fun g => br_t (tr_upR hy hi g) ⟨by decide, nm_e w⟩)) (fun g => br_t (tr_upL hx hi g) ⟨by decide, nm_e w⟩))
theorem tr_leastOr {post : Int32 → Prop} {x y : Nat} (hx : x < 128) (hy : y < 128) (hp : post (nI x ||| nI y)) : wpX_leastOr post () (nI x) (nI x) (nI y) (nI y) :=
  ⟨8, tr_lor hx hy hp 7 (by omega)⟩
theorem tr_gor {post : Int32 → Prop} {x y : Nat} (hx : x < 128) (hy : y < 128) (hp : post (nI x ||| nI y)) : ∀ i, i ≤ 7 → wX_greatestOr_4 post (nI x) (nI x) (nI y) (nI y) (i + 1) (tr_bit i) := by
  intro i
  induction i with
  | zero => exact fun _ => br_t (by decide +kernel) hp
  | succ i ih =>
    intro h
    have w := ih (by omega)
    have hi : i < 7 := by omega
    rw [← tr_half i hi] at w
    exact br_f (tr_bpos i hi) (br_c (fun _ => ⟨by decide, nm_e w⟩) (fun g => br_t (tr_dnL hx hi g) (br_t (tr_dnR hy hi g) ⟨by decide, nm_e w⟩)))
theorem tr_greatestOr {post : Int32 → Prop} {x y : Nat} (hx : x < 128) (hy : y < 128) (hp : post (nI x ||| nI y)) : wpX_greatestOr post () (nI x) (nI x) (nI y) (nI y) :=
  ⟨8, tr_gor hx hy hp 7 (by omega)⟩
theorem tr_lxr {post : Int32 → Prop} {x y : Nat} (hx : x < 128) (hy : y < 128) (hp : post (nI x ^^^ nI y)) : ∀ i, i ≤ 7 → wX_leastXor_10 post (nI x) (nI y) (i + 1) (nI x) (nI y) (tr_bit i) := by
  intro i
  induction i with
  | zero => exact fun _ => br_t (by decide +kernel) hp
  | succ i ih =>
    intro h
    have w := ih (by omega)
    have hi : i < 7 := by omega
    rw [← tr_half i hi] at w
    exact br_f (tr_bpos i hi) (br_c (fun _ => br_c (fun _ => ⟨by decide, nm_e w⟩) (fun g => br_t (tr_upR hy hi g) ⟨by decide, nm_e w⟩)) (fun g => br_t (tr_upL hx hi g) ⟨by decide, nm_e w⟩))
theorem tr_leastXor {post : Int32 → Prop} {x y : Nat} (hx : x < 128) (hy : y < 128) (hp : post (nI x ^^^ nI y)) : wpX_leastXor post () (nI x) (nI x) (nI y) (nI y) :=
  ⟨8, tr_lxr hx hy hp 7 (by omega)⟩
theorem tr_gxr {post : Int32 → Prop} {x y : Nat} (hx : x < 128) (hy : y < 128) (hp : post (nI x ^^^ nI y)) : ∀ i, i ≤ 7 → wX_greatestXor_10 post (nI x) (nI y) (i + 1) (nI x) (nI y) (tr_bit i) := by
  intro i
  induction i with
  | zero => exact fun _ => br_t (by decide +kernel) hp
  | succ i ih =>
    intro h
    have w := ih (by omega)
    have hi : i < 7 := by omega
    rw [← tr_half i hi] at w
    exact br_f (tr_bpos i hi) (br_c (fun _ => ⟨by decide, nm_e w⟩) (fun g => br_t (tr_dnL hx hi g) (br_t (tr_dnR hy hi g) ⟨by decide, nm_e w⟩)))
theorem tr_greatestXor {post : Int32 → Prop} {x y : Nat} (hx : x < 128) (hy : y < 128) (hp : post (nI x ^^^ nI y)) : wpX_greatestXor post () (nI x) (nI x) (nI y) (nI y) :=
  ⟨8, tr_gxr hx hy hp 7 (by omega)⟩
/-- the bits that 'reversed' has chosen, and its answer, over the range x .. x -/
def tr_rs (x w : Int32) : Nat → Int32 × Int32
  | 0 => (0, 0)
  | k + 1 =>
    if x < x + ((((tr_rs x w k).1 ||| (w <<< (nI k &&& 31))) - x) &&& (((2 : Int32) <<< (nI k &&& 31)) - 1))
    then ((tr_rs x w k).1 ||| ((1 - w) <<< (nI k &&& 31)), 2 * (tr_rs x w k).2 + (1 - w))
    else ((tr_rs x w k).1 ||| (w <<< (nI k &&& 31)), 2 * (tr_rs x w k).2 + w)
theorem tr_rsT {x w : Int32} {k : Nat} (h : x < x + ((((tr_rs x w k).1 ||| (w <<< (nI k &&& 31))) - x) &&& (((2 : Int32) <<< (nI k &&& 31)) - 1))) : tr_rs x w (k + 1) = ((tr_rs x w k).1 ||| ((1 - w) <<< (nI k &&& 31)), 2 * (tr_rs x w k).2 + (1 - w)) := if_pos h
theorem tr_rsF {x w : Int32} {k : Nat} (h : ¬ x < x + ((((tr_rs x w k).1 ||| (w <<< (nI k &&& 31))) - x) &&& (((2 : Int32) <<< (nI k &&& 31)) - 1))) : tr_rs x w (k + 1) = ((tr_rs x w k).1 ||| (w <<< (nI k &&& 31)), 2 * (tr_rs x w k).2 + w) := if_neg h
theorem tr_rev0 {post : Int32 → Prop} {x w : Int32} (hp : post (tr_rs x w 7).2) : ∀ j k, k + j = 7 → wX_reversed_8 post x x w (j + 1) (tr_rs x w k).1 (tr_rs x w k).2 (nI k) := by
  intro j
  induction j with
  | zero =>
    intro k hk
    have e : k = 7 := by omega
    subst e
    exact br_t (by decide +kernel) hp
  | succ j ih =>
    intro k hk
    have W := ih (k + 1) (by omega)
    refine br_f (nI_ge (b := 7) (by omega) (by decide)) (nm_e (nm_e (nm_e (br_c (fun g => ?_) (fun g => ?_)))))
    · rw [tr_rsT g] at W
      exact nm_e (nm_e (nm_r (nI_1 k) W))
    · rw [tr_rsF g] at W
      exact nm_e (nm_e (nm_r (nI_1 k) W))
theorem tr_reversed {post : Int32 → Prop} {x w : Int32} (hp : post (tr_rs x w 7).2) : wpX_reversed post () x x w :=
  ⟨8, tr_rev0 hp 7 0 (by omega)⟩
def tr_rev (x : Int32) : Int32 := ((((((((x &&& 1) <<< ((6 : Int32) &&& 31)) ||| ((x &&& 2) <<< ((4 : Int32) &&& 31))) ||| ((x &&& 4) <<< ((2 : Int32) &&& 31))) ||| (x &&& 8)) ||| ((x &&& 16) >>> ((2 : Int32) &&& 31))) ||| ((x &&& 32) >>> ((4 : Int32) &&& 31))) ||| (x >>> ((6 : Int32) &&& 31)))
theorem tr_rsl : ∀ x, x < 128 → (tr_rs (nI x) 0 7).2 = tr_rev (nI x) := by decide +kernel
end
section
/-- 1 where i and j have no common bit; the sums over a row and over a rectangle -/
def tr_d (i j : Nat) : Int32 := if i &&& j = 0 then 1 else 0
def tr_r (i : Nat) : Nat → Int32
  | 0 => 0
  | n + 1 => tr_r i n + tr_d i n
def tr_q (m n : Nat) : Int32 := match m with
  | 0 => 0
  | m + 1 => tr_q m n + tr_r m n
theorem tr_rs0 (i : Nat) : tr_r i 0 = 0 := rfl
theorem tr_rS (i n : Nat) : tr_r i (n + 1) = tr_r i n + tr_d i n := rfl
theorem tr_q0 (n : Nat) : tr_q 0 n = 0 := rfl
theorem tr_qS (m n : Nat) : tr_q (m + 1) n = tr_q m n + tr_r m n := rfl
theorem tr_qz (m : Nat) : tr_q m 0 = 0 := by
  induction m with
  | zero => rfl
  | succ m ih => rw [tr_qS, ih, tr_rs0]; rfl
theorem tr_dc (i j : Nat) : tr_d i j = tr_d j i := by
  unfold tr_d
  rw [Nat.and_comm]
theorem tr_land (i j a b : Nat) (ha : a < 2) (hb : b < 2) : ((2 * i + a) &&& (2 * j + b)) = 2 * (i &&& j) + a * b := by
  have h1 : ((2 * i + a) &&& (2 * j + b)) / 2 ^ 1 = ((2 * i + a) / 2 ^ 1 &&& (2 * j + b) / 2 ^ 1) := Nat.and_div_two_pow
  have h2 : ((2 * i + a) &&& (2 * j + b)) % 2 ^ 1 = ((2 * i + a) % 2 ^ 1 &&& (2 * j + b) % 2 ^ 1) := Nat.and_mod_two_pow
  rw [show (2 * i + a) / 2 ^ 1 = i by omega, show (2 * j + b) / 2 ^ 1 = j by omega] at h1
  rw [show (2 * i + a) % 2 ^ 1 = a by omega, show (2 * j + b) % 2 ^ 1 = b by omega] at h2
  have h3 : (a &&& b) = a * b := by
    rcases (show a = 0 ∨ a = 1 by omega) with rfl | rfl <;> rcases (show b = 0 ∨ b = 1 by omega) with rfl | rfl <;> rfl
  rw [h3] at h2
  omega
theorem tr_d0 (i j b : Nat) (hb : b < 2) : tr_d (2 * i) (2 * j + b) = tr_d i j := by
  have h := tr_land i j 0 b (by omega) hb
  rw [Nat.add_zero, Nat.zero_mul, Nat.add_zero] at h
  unfold tr_d
  rw [h]
  by_cases e : i &&& j = 0
  · rw [if_pos e, if_pos (by omega)]
  · rw [if_neg e, if_neg (by omega)]
theorem tr_d1 (i j : Nat) : tr_d (2 * i + 1) (2 * j) = tr_d i j := by
  rw [tr_dc, tr_d0 j i 1 (by omega), tr_dc]
theorem tr_d11 (i j : Nat) : tr_d (2 * i + 1) (2 * j + 1) = 0 := by
  have h := tr_land i j 1 1 (by omega) (by omega)
  unfold tr_d
  rw [h, if_neg (by omega)]
theorem tr_d00 (i j : Nat) : tr_d (2 * i) (2 * j) = tr_d i j := tr_d0 i j 0 (by omega)
theorem tr_d01 (i j : Nat) : tr_d (2 * i) (2 * j + 1) = tr_d i j := tr_d0 i j 1 (by omega)
theorem tr_rE (i n : Nat) : tr_r (2 * i) (2 * n) = 2 * tr_r i n := by
  induction n with
  | zero => rfl
  | succ n ih =>
    show tr_r (2 * i) (2 * n + 1 + 1) = _
    rw [tr_rS, tr_rS, ih, tr_rS, tr_d00, tr_d01]
    grind
theorem tr_rO (i n : Nat) : tr_r (2 * i + 1) (2 * n) = tr_r i n := by
  induction n with
  | zero => rfl
  | succ n ih =>
    show tr_r (2 * i + 1) (2 * n + 1 + 1) = _
    rw [tr_rS, tr_rS, ih, tr_rS, tr_d1, tr_d11]
    grind
theorem tr_rE1 (i n : Nat) : tr_r (2 * i) (2 * n + 1) = 2 * tr_r i n + tr_d i n := by rw [tr_rS, tr_rE, tr_d00]
theorem tr_rO1 (i n : Nat) : tr_r (2 * i + 1) (2 * n + 1) = tr_r i n + tr_d i n := by rw [tr_rS, tr_rO, tr_d1]
theorem tr_qE (m n : Nat) : tr_q (2 * m) (2 * n) = 3 * tr_q m n := by
  induction m with
  | zero => rfl
  | succ m ih =>
    show tr_q (2 * m + 1 + 1) (2 * n) = _
    rw [tr_qS, tr_qS, ih, tr_qS, tr_rE, tr_rO]
    grind
theorem tr_qE1 (m n : Nat) : tr_q (2 * m) (2 * n + 1) = 3 * tr_q m n + 2 * tr_r n m := by
  induction m with
  | zero => rfl
  | succ m ih =>
    show tr_q (2 * m + 1 + 1) (2 * n + 1) = _
    rw [tr_qS, tr_qS, ih, tr_qS, tr_rE1, tr_rO1, tr_rS, tr_dc n m]
    grind
theorem tr_qO (m n : Nat) : tr_q (2 * m + 1) (2 * n) = 3 * tr_q m n + 2 * tr_r m n := by rw [tr_qS, tr_qE, tr_rE]
theorem tr_qO1 (m n : Nat) : tr_q (2 * m + 1) (2 * n + 1) = 3 * tr_q m n + 2 * tr_r n m + (2 * tr_r m n + tr_d m n) := by rw [tr_qS, tr_qE1, tr_rE1]
theorem tr_diff (x y : Nat) : ((tr_q (y + 1) (x + 1) + tr_q y x) - tr_q y (x + 1)) - tr_q (y + 1) x = tr_d y x := by
  rw [tr_qS, tr_qS, tr_rS]
  grind
theorem tr_all (x y : Nat) : ((tr_d x y + tr_r x y) + tr_r y x) + tr_q x y = tr_q (x + 1) (y + 1) := by
  have h : ∀ m, tr_q m (y + 1) = tr_q m y + tr_r y m := by
    intro m
    induction m with
    | zero => rfl
    | succ m ih =>
      rw [tr_qS, ih, tr_qS, tr_rS, tr_rS, tr_dc m y]
      grind
  rw [tr_qS, h, tr_rS]
  grind
theorem tr_sc : ∀ n, n < 32 → (((nI n).toUInt32 &&& Int32.toUInt32 31).toBitVec % 32).toNat = n := by decide +kernel
theorem tr_bitat {x i : Nat} (hx : x < 128) (hi : i < 7) : (((nI x).toUInt32 >>> ((nI i).toUInt32 &&& Int32.toUInt32 31)).toInt32 &&& 1) = nI (x / 2 ^ i % 2) := by
  rw [pk_ushrN (by omega) (nI i) i (tr_sc i (by omega))]
  have hd : x / 2 ^ i ≤ x := Nat.div_le_self _ _
  exact pk_andN (by omega) 1 (by decide)
theorem tr_halve (x i : Nat) : x / 2 ^ (i + 1) = x / 2 ^ i / 2 := by
  rw [Nat.pow_succ, Nat.div_div_eq_div_mul]
/-- one turn: from the halves m, n to 2 m + a, 2 n + b -/
theorem tr_turn {post : Int32 → Prop} {J : Int32 → Int32 → Int32 → Int32 → Int32 → Prop} {X Y K K' : Int32} (hK : K + (-1) = K') (m n a b : Nat) (ha : a < 2) (hb : b < 2)
    (h : J (tr_d (2 * m + a) (2 * n + b)) (tr_r (2 * m + a) (2 * n + b)) (tr_r (2 * n + b) (2 * m + a)) (tr_q (2 * m + a) (2 * n + b)) K') :
    ∀ x5 : Int32, x5 = (((3 * tr_q m n) + ((2 * nI a) * tr_r m n)) + ((2 * nI b) * tr_r n m)) + ((nI a * nI b) * tr_d m n) →
      ((nI a = 1 → wX_apartUpTo_87 post J X Y (tr_d m n) (tr_r n m) x5 K (nI a) (nI b) (tr_r m n)) ∧ (¬ nI a = 1 → wX_apartUpTo_87 post J X Y (tr_d m n) (tr_r n m) x5 K (nI a) (nI b) (2 * tr_r m n))) := by
  have e0 : nI 0 = 0 := rfl
  have e1 : nI 1 = 1 := rfl
  rcases (show a = 0 ∨ a = 1 by omega) with rfl | rfl <;> rcases (show b = 0 ∨ b = 1 by omega) with rfl | rfl
  · rw [Nat.add_zero, Nat.add_zero, tr_d00, tr_rE, tr_rE, tr_qE] at h
    refine nm_r (e' := 3 * tr_q m n) (by rw [e0]; grind) (br_f (by decide) (nm_r (e' := 2 * tr_r m n) (by rw [e0]; grind) (br_f (by decide) (nm_r (e' := 2 * tr_r n m) (by rw [e0]; grind) (br_f (by decide) (nm_r hK h))))))
  · rw [Nat.add_zero, tr_d01, tr_rE1, tr_rO, tr_qE1] at h
    refine nm_r (e' := 3 * tr_q m n + 2 * tr_r n m) (by rw [e0, e1]; grind) (br_f (by decide) (nm_r (e' := 2 * tr_r m n + tr_d m n) (by rw [e1]; grind) (br_t (by decide) (nm_r (e' := tr_r n m) (by rw [e0]; grind) (br_f (by decide) (nm_r hK h))))))
  · rw [Nat.add_zero (2 * n), tr_d1, tr_rO, tr_rE1, tr_qO, tr_dc n m] at h
    refine nm_r (e' := 3 * tr_q m n + 2 * tr_r m n) (by rw [e0, e1]; grind) (br_t (by decide) (nm_r (e' := tr_r m n) (by rw [e0]; grind) (br_f (by decide) (nm_r (e' := 2 * tr_r n m + tr_d m n) (by rw [e1]; grind) (br_f (by decide) (nm_r hK h))))))
  · rw [tr_d11, tr_rO1, tr_rO1, tr_qO1, tr_dc n m] at h
    refine nm_r (e' := 3 * tr_q m n + 2 * tr_r n m + (2 * tr_r m n + tr_d m n)) (by rw [e1]; grind) (br_t (by decide) (nm_r (e' := tr_r m n + tr_d m n) (by rw [e1]; grind) (br_t (by decide) (nm_r (e' := tr_r n m + tr_d m n) (by rw [e1]; grind) (br_t (by decide) (nm_r hK h))))))
theorem tr_apl {post : Int32 → Prop} {x y : Nat} (hx : x < 128) (hy : y < 128) (hp : post (tr_q (x + 1) (y + 1))) : ∀ i, i ≤ 7 → wX_apartUpTo_24 post (nI x) (nI y) (i + 1) (tr_d (x / 2 ^ i) (y / 2 ^ i)) (tr_r (x / 2 ^ i) (y / 2 ^ i)) (tr_r (y / 2 ^ i) (x / 2 ^ i)) (tr_q (x / 2 ^ i) (y / 2 ^ i)) (nI i + (-1)) := by
  intro i
  induction i with
  | zero =>
    intro _
    refine br_t (by decide +kernel) ?_
    rw [Nat.pow_zero, Nat.div_one, Nat.div_one, tr_all]
    exact hp
  | succ i ih =>
    intro hi
    have w := ih (by omega)
    have ex : x / 2 ^ i = 2 * (x / 2 ^ (i + 1)) + x / 2 ^ i % 2 := by rw [tr_halve]; omega
    have ey : y / 2 ^ i = 2 * (y / 2 ^ (i + 1)) + y / 2 ^ i % 2 := by rw [tr_halve]; omega
    have la : x / 2 ^ i % 2 < 2 := by omega
    have lb : y / 2 ^ i % 2 < 2 := by omega
    have bx := tr_bitat hx (show i < 7 by omega)
    have by' := tr_bitat hy (show i < 7 by omega)
    generalize x / 2 ^ i % 2 = a at ex la bx
    generalize y / 2 ^ i % 2 = b at ey lb by'
    rw [ex, ey] at w
    generalize x / 2 ^ (i + 1) = m at w ⊢
    generalize y / 2 ^ (i + 1) = n at w ⊢
    rw [pk_m1]
    exact br_f (nI_pos (by omega)) (nm_r bx (nm_r by' (tr_turn rfl m n a b la lb w)))
theorem tr_apu {post : Int32 → Prop} {m n : Nat} (hm : m ≤ 128) (hn : n ≤ 128) (hp : post (tr_q m n)) : wpX_apartUpTo post () (nI m - 1) (nI n - 1) := by
  cases m with
  | zero => exact br_t (by decide +kernel) hp
  | succ x =>
    rw [nI_pred]
    cases n with
    | zero =>
      rw [tr_qz] at hp
      exact br_f (nI_pos (by omega)) (br_f (by decide +kernel) hp)
    | succ y =>
      rw [nI_pred]
      have hx : x / 2 ^ 7 = 0 := by omega
      have hy : y / 2 ^ 7 = 0 := by omega
      have w := tr_apl (show x < 128 by omega) (show y < 128 by omega) hp 7 (by omega)
      rw [hx, hy] at w
      exact br_f (nI_pos (by omega)) (br_t (nI_pos' (by omega)) ⟨8, w⟩)
end
section
theorem tr_g0 {post : Int32 → Prop} (h : post 1) : wpX_isRegister post () 0 := br_f (by decide) (br_f (by decide) h)
theorem tr_i0 : vp_in 0 6 := vp_in_iff.mpr (by decide)
theorem tr_g1 {post : Int32 → Prop} (h : post 1) : wpX_isRegister post () 1 := br_f (by decide) (br_f (by decide) h)
theorem tr_i1 : vp_in 1 6 := vp_in_iff.mpr (by decide)
theorem tr_g2 {post : Int32 → Prop} (h : post 1) : wpX_isRegister post () 2 := br_f (by decide) (br_f (by decide) h)
theorem tr_i2 : vp_in 2 6 := vp_in_iff.mpr (by decide)
theorem tr_g4 {post : Int32 → Prop} (h : post 1) : wpX_isRegister post () 4 := br_f (by decide) (br_f (by decide) h)
theorem tr_i4 : vp_in 4 6 := vp_in_iff.mpr (by decide)
theorem tr_g5 {post : Int32 → Prop} (h : post 1) : wpX_isRegister post () 5 := br_f (by decide) (br_f (by decide) h)
theorem tr_i5 : vp_in 5 6 := vp_in_iff.mpr (by decide)
/-- registers 2 and 4 hold x and y -/
def tr_S (x y : Nat) (a1 a2 : Nat → Int32) : Prop := a1 (2 : Int32).toNatClampNeg = nI x ∧ a2 (2 : Int32).toNatClampNeg = nI x ∧ a1 (4 : Int32).toNatClampNeg = nI y ∧ a2 (4 : Int32).toNatClampNeg = nI y
theorem tr_Su {x y j : Nat} {a1 a2 : Nat → Int32} {v w : Int32} (S : tr_S x y a1 a2) (h2 : (2 : Int32).toNatClampNeg ≠ j) (h4 : (4 : Int32).toNatClampNeg ≠ j) : tr_S x y (upd a1 j v) (upd a2 j w) :=
  ⟨(pk_un h2).trans S.1, (pk_un h2).trans S.2.1, (pk_un h4).trans S.2.2.1, (pk_un h4).trans S.2.2.2⟩
theorem tr_set2 {post : Int32 → St2 → Prop} {f0 f1 : Int32} {a1 a2 : Nat → Int32} {x : Nat} (hx : x < 128) (hp : ∀ r, post r (f0, f1, upd a1 (2 : Int32).toNatClampNeg (nI x), upd a2 (2 : Int32).toNatClampNeg (nI x))) : wpX_set post (f0, f1, a1, a2) 2 (nI x) (nI x) := by
  unfold wpX_set
  dsimp only
  exact tr_g2 (br_f (by decide) (br_f (nI_pos (by omega)) (br_f (nI_nlt (Nat.le_refl x) (by omega)) (br_t (nI_le (b := 127) (by omega) (by decide)) ⟨tr_i2, nm_e ⟨tr_i2, nm_e (hp 0)⟩⟩))))
theorem tr_set4 {post : Int32 → St2 → Prop} {f0 f1 : Int32} {a1 a2 : Nat → Int32} {x : Nat} (hx : x < 128) (hp : ∀ r, post r (f0, f1, upd a1 (4 : Int32).toNatClampNeg (nI x), upd a2 (4 : Int32).toNatClampNeg (nI x))) : wpX_set post (f0, f1, a1, a2) 4 (nI x) (nI x) := by
  unfold wpX_set
  dsimp only
  exact tr_g4 (br_f (by decide) (br_f (nI_pos (by omega)) (br_f (nI_nlt (Nat.le_refl x) (by omega)) (br_t (nI_le (b := 127) (by omega) (by decide)) ⟨tr_i4, nm_e ⟨tr_i4, nm_e (hp 0)⟩⟩))))
theorem tr_init {post : St2 → Prop} {mc ms : Nat} {f0 f1 : Int32} (hc : 2 ≤ mc) (hs : 12 ≤ ms) (hp : ∀ a1 a2, post (f0, f1, a1, a2)) : wpX_init post mc ms (f0, f1) :=
  ⟨by omega, by omega, hc, hs, pk_loop (fun n i s => wX_init_22 post mc ms 2 12 f0 f1 n (nI i) (fun _ => 0) s) (fun _ _ => True) 6 0 (fun _ => 0) (by omega) trivial
    (fun n s _ => pk_le 6 6 (fun _ => hp _ _) (fun z => absurd z (by omega)))
    (fun n i s hi _ hw => pk_le 6 i (fun z => absurd z (by omega)) (fun _ => ⟨pk_in i 6 hi, nm_e (nm_r (nI_1 i) (hw _ trivial))⟩))⟩
theorem tr_bw3 {post : St2 → Prop} {f0 f1 : Int32} {a1 a2 : Nat → Int32} {x y : Nat} (hx : x < 128) (hy : y < 128) (hp : post ((nI x ||| nI y), (nI x ||| nI y), a1, a2)) : wpX_bitwise post (f0, f1, a1, a2) 3 (nI x) (nI x) (nI y) (nI y) :=
  br_t rfl (tr_leastOr hx hy (tr_greatestOr hx hy hp))
theorem tr_bw2 {post : St2 → Prop} {f0 f1 : Int32} {a1 a2 : Nat → Int32} {x y : Nat} (hx : x < 128) (hy : y < 128) (hp : post ((nI x &&& nI y), (nI x &&& nI y), a1, a2)) : wpX_bitwise post (f0, f1, a1, a2) 2 (nI x) (nI x) (nI y) (nI y) := by
  unfold wpX_bitwise
  dsimp only
  rw [tr_c127 hx, tr_c127 hy]
  rw [← tr_dem hx hy] at hp
  exact br_f (by decide) (br_t rfl (tr_leastOr (by omega) (by omega) (tr_greatestOr (by omega) (by omega) hp)))
theorem tr_bw4 {post : St2 → Prop} {f0 f1 : Int32} {a1 a2 : Nat → Int32} {x y : Nat} (hx : x < 128) (hy : y < 128) (hp : post ((nI x ^^^ nI y), (nI x ^^^ nI y), a1, a2)) : wpX_bitwise post (f0, f1, a1, a2) 4 (nI x) (nI x) (nI y) (nI y) :=
  br_f (by decide) (br_f (by decide) (tr_leastXor hx hy (tr_greatestXor hx hy hp)))
theorem tr_76 {post : St2 → Prop} {f0 f1 : Int32} {a1 a2 : Nat → Int32} {s : Nat} (hs : s < 256) (hp : post (nI (s % 128), nI (s % 128), a1, a2)) : wX_addOrSubtract_76 post (nI s) (nI s) f0 f1 a1 a2 := by
  refine pk_le 128 s (fun z => br_f (nI_nlt (b := 128) z (by omega)) ?_) (fun z => ?_)
  · have e : nI s - 128 = nI (s % 128) := by
      rw [show s % 128 = s - 128 by omega]
      exact pk_sub (b := 128) z
    rw [e]
    exact hp
  · rw [show s % 128 = s by omega] at hp
    exact hp
theorem tr_add0 {post : St2 → Prop} {f0 f1 : Int32} {a1 a2 : Nat → Int32} {x y : Nat} (S : tr_S x y a1 a2) (hx : x < 128) (hy : y < 128) (hp : post (((nI x + nI y) &&& 127), ((nI x + nI y) &&& 127), a1, a2)) : wpX_addOrSubtract post (f0, f1, a1, a2) 0 2 4 := by
  obtain ⟨h1, h2, h3, h4⟩ := S
  refine br_t rfl ⟨tr_i2, tr_i4, br_t rfl ⟨tr_i2, tr_i4, ?_⟩⟩
  rw [h1, h2, h3, h4, nI_add]
  rw [tr_sum x y hx hy] at hp
  exact tr_76 (by omega) hp
theorem tr_add1 {post : St2 → Prop} {f0 f1 : Int32} {a1 a2 : Nat → Int32} {x y : Nat} (S : tr_S x y a1 a2) (hx : x < 128) (hy : y < 128) (hp : post (((nI x - nI y) &&& 127), ((nI x - nI y) &&& 127), a1, a2)) : wpX_addOrSubtract post (f0, f1, a1, a2) 1 2 4 := by
  obtain ⟨h1, h2, h3, h4⟩ := S
  refine br_f (by decide) ⟨tr_i2, tr_i4, br_f (by decide) ⟨tr_i2, tr_i4, ?_⟩⟩
  rw [h1, h2, h3, h4, tr_dif1 hy]
  rw [tr_dif hx hy] at hp
  exact tr_76 (by omega) hp
theorem tr_mul {post : St2 → Prop} {f0 f1 : Int32} {a1 a2 : Nat → Int32} {x y : Nat} (S : tr_S x y a1 a2) (hx : x < 128) (hy : y < 128) (hp : post ((nI x * nI y) / 128, (nI x * nI y) / 128, a1, a2)) : wpX_multiplyOrDivide post (f0, f1, a1, a2) 5 2 4 := by
  obtain ⟨h1, h2, h3, h4⟩ := S
  refine br_t rfl ⟨tr_i2, tr_i4, tr_i2, tr_i4, ?_⟩
  rw [h1, h2, h3, h4, tr_mshr hx hy]
  exact hp
theorem tr_div0 {post : St2 → Prop} {f0 f1 : Int32} {a1 a2 : Nat → Int32} {x y : Nat} (S : tr_S x y a1 a2) (h0 : nI y = 0) (hp : post (127, 127, a1, a2)) : wpX_multiplyOrDivide post (f0, f1, a1, a2) 6 2 4 := by
  obtain ⟨h1, h2, h3, h4⟩ := S
  exact br_f (by decide) ⟨tr_i4, br_t (h4.trans h0) hp⟩
theorem tr_div1 {post : St2 → Prop} {f0 f1 : Int32} {a1 a2 : Nat → Int32} {x y : Nat} (S : tr_S x y a1 a2) (hy : y < 128) (h0 : ¬ nI y = 0) (hp : post (nI x / nI y, nI x / nI y, a1, a2)) : wpX_multiplyOrDivide post (f0, f1, a1, a2) 6 2 4 := by
  obtain ⟨h1, h2, h3, h4⟩ := S
  have hy0 : 0 < y := Nat.pos_of_ne_zero (fun z => h0 (by rw [z]; rfl))
  refine br_f (by decide) ⟨tr_i4, br_f (by rw [h4]; exact h0) ⟨tr_i4, nm_r h4 ⟨tr_i4, nm_r h3 ⟨tr_i2, h0, br_f (nI_nle hy0 (by omega)) ⟨tr_i2, h0, ?_⟩⟩⟩⟩⟩
  rw [h1, h2]
  exact hp
theorem tr_gtl {post : Int32 → Prop} {a b : Int32} (h : a ≤ b) (hp : post b) : wpX_greater post () a b := br_t h hp
theorem tr_gtr {post : Int32 → Prop} {a b : Int32} (h : ¬ a ≤ b) (hp : post a) : wpX_greater post () a b := br_f h hp
theorem tr_max1 {post : St2 → Prop} {f0 f1 : Int32} {a1 a2 : Nat → Int32} {x y : Nat} (S : tr_S x y a1 a2) (h : nI x ≤ nI y) (hp : post (nI y, nI y, a1, a2)) : wpX_compareEnds post (f0, f1, a1, a2) 7 2 4 := by
  obtain ⟨h1, h2, h3, h4⟩ := S
  refine br_f (by decide) (br_f (by decide) ⟨tr_i2, tr_i4, ?_⟩)
  rw [h1, h2, h3, h4]
  exact tr_gtl h ⟨tr_i2, tr_i4, tr_gtl h hp⟩
theorem tr_max2 {post : St2 → Prop} {f0 f1 : Int32} {a1 a2 : Nat → Int32} {x y : Nat} (S : tr_S x y a1 a2) (h : ¬ nI x ≤ nI y) (hp : post (nI x, nI x, a1, a2)) : wpX_compareEnds post (f0, f1, a1, a2) 7 2 4 := by
  obtain ⟨h1, h2, h3, h4⟩ := S
  refine br_f (by decide) (br_f (by decide) ⟨tr_i2, tr_i4, ?_⟩)
  rw [h1, h2, h3, h4]
  exact tr_gtr h ⟨tr_i2, tr_i4, tr_gtr h hp⟩
theorem tr_dle {a b : Nat} (ha : a < 128) (hb : b < 128) : nI a - nI b ≤ nI b - nI a ↔ a ≤ b := by
  rw [Int32.le_iff_toInt_le, pk_sub_toInt (by omega) (by omega), pk_sub_toInt (by omega) (by omega)]
  omega
theorem tr_gt0 {post : Int32 → Prop} {n : Nat} (hn : n < 128) (hp : post (nI n)) : wpX_greater post () (nI n) 0 := by
  cases n with
  | zero => exact tr_gtl (by decide) hp
  | succ n => exact tr_gtr (nI_nle (by omega) (by omega)) hp
theorem tr_dst1 {post : St2 → Prop} {f0 f1 : Int32} {a1 a2 : Nat → Int32} {x y : Nat} (S : tr_S x y a1 a2) (hx : x < 128) (hy : y < 128) (h : nI x ≤ nI y) (hp : post (nI y - nI x, nI y - nI x, a1, a2)) : wpX_distance post (f0, f1, a1, a2) 2 4 := by
  obtain ⟨h1, h2, h3, h4⟩ := S
  rw [nI_leI (by omega) (by omega)] at h
  refine ⟨tr_i2, tr_i4, tr_i4, tr_i2, ?_⟩
  rw [h1, h2, h3, h4]
  refine tr_gtl ((tr_dle hx hy).mpr h) ⟨tr_i2, tr_i4, tr_i4, tr_i2, tr_gtl ((tr_dle hx hy).mpr h) ?_⟩
  rw [pk_sub h] at hp ⊢
  exact tr_gt0 (by omega) hp
theorem tr_dst2 {post : St2 → Prop} {f0 f1 : Int32} {a1 a2 : Nat → Int32} {x y : Nat} (S : tr_S x y a1 a2) (hx : x < 128) (hy : y < 128) (h : ¬ nI x ≤ nI y) (hp : post (nI x - nI y, nI x - nI y, a1, a2)) : wpX_distance post (f0, f1, a1, a2) 2 4 := by
  obtain ⟨h1, h2, h3, h4⟩ := S
  rw [nI_leI (by omega) (by omega)] at h
  have g : ¬ nI x - nI y ≤ nI y - nI x := fun z => h ((tr_dle hx hy).mp z)
  refine ⟨tr_i2, tr_i4, tr_i4, tr_i2, ?_⟩
  rw [h1, h2, h3, h4]
  refine tr_gtr g ⟨tr_i2, tr_i4, tr_i4, tr_i2, tr_gtr g ?_⟩
  rw [pk_sub (show y ≤ x by omega)] at hp ⊢
  exact tr_gt0 (by omega) hp
theorem tr_130 {post : Int32 → St2 → Prop} {v : Int32} {a1 a2 : Nat → Int32} (hp : post 0 (v, v, upd a1 (0 : Int32).toNatClampNeg v, upd a2 (0 : Int32).toNatClampNeg v)) : wX_combine_130 post 0 v v a1 a2 :=
  br_t (Int32.le_refl v) ⟨tr_i0, nm_e ⟨tr_i0, nm_e hp⟩⟩
theorem tr_cm0 {post : Int32 → St2 → Prop} {f0 f1 : Int32} {a1 a2 : Nat → Int32} {x y : Nat} (S : tr_S x y a1 a2) (hx : x < 128) (hy : y < 128) (hp : post 0 (((nI x + nI y) &&& 127), ((nI x + nI y) &&& 127), upd a1 (0 : Int32).toNatClampNeg ((nI x + nI y) &&& 127), upd a2 (0 : Int32).toNatClampNeg ((nI x + nI y) &&& 127))) : wpX_combine post (f0, f1, a1, a2) 0 0 2 4 := by
  unfold wpX_combine
  dsimp only
  refine tr_g0 (br_f (by decide) (tr_g2 (br_f (by decide) (tr_g4 (br_f (by decide) (br_f (by decide) (br_t (by decide) (br_f (by decide) ?_))))))))
  exact tr_add0 S hx hy (tr_130 hp)
theorem tr_cm1 {post : Int32 → St2 → Prop} {f0 f1 : Int32} {a1 a2 : Nat → Int32} {x y : Nat} (S : tr_S x y a1 a2) (hx : x < 128) (hy : y < 128) (hp : post 0 (((nI x - nI y) &&& 127), ((nI x - nI y) &&& 127), upd a1 (0 : Int32).toNatClampNeg ((nI x - nI y) &&& 127), upd a2 (0 : Int32).toNatClampNeg ((nI x - nI y) &&& 127))) : wpX_combine post (f0, f1, a1, a2) 0 1 2 4 := by
  unfold wpX_combine
  dsimp only
  refine tr_g0 (br_f (by decide) (tr_g2 (br_f (by decide) (tr_g4 (br_f (by decide) (br_f (by decide) (br_t (by decide) (br_f (by decide) ?_))))))))
  exact tr_add1 S hx hy (tr_130 hp)
theorem tr_cm2 {post : Int32 → St2 → Prop} {f0 f1 : Int32} {a1 a2 : Nat → Int32} {x y : Nat} (S : tr_S x y a1 a2) (hx : x < 128) (hy : y < 128) (hp : post 0 ((nI x &&& nI y), (nI x &&& nI y), upd a1 (0 : Int32).toNatClampNeg (nI x &&& nI y), upd a2 (0 : Int32).toNatClampNeg (nI x &&& nI y))) : wpX_combine post (f0, f1, a1, a2) 0 2 2 4 := by
  unfold wpX_combine
  dsimp only
  refine tr_g0 (br_f (by decide) (tr_g2 (br_f (by decide) (tr_g4 (br_f (by decide) (br_f (by decide) (br_t (by decide) (br_t (by decide) (br_f (by decide) ?_)))))))))
  obtain ⟨h1, h2, h3, h4⟩ := S
  refine ⟨tr_i2, tr_i2, tr_i4, tr_i4, ?_⟩
  rw [h1, h2, h3, h4]
  exact tr_bw2 hx hy (tr_130 hp)
theorem tr_cm3 {post : Int32 → St2 → Prop} {f0 f1 : Int32} {a1 a2 : Nat → Int32} {x y : Nat} (S : tr_S x y a1 a2) (hx : x < 128) (hy : y < 128) (hp : post 0 ((nI x ||| nI y), (nI x ||| nI y), upd a1 (0 : Int32).toNatClampNeg (nI x ||| nI y), upd a2 (0 : Int32).toNatClampNeg (nI x ||| nI y))) : wpX_combine post (f0, f1, a1, a2) 0 3 2 4 := by
  unfold wpX_combine
  dsimp only
  refine tr_g0 (br_f (by decide) (tr_g2 (br_f (by decide) (tr_g4 (br_f (by decide) (br_f (by decide) (br_t (by decide) (br_t (by decide) (br_f (by decide) ?_)))))))))
  obtain ⟨h1, h2, h3, h4⟩ := S
  refine ⟨tr_i2, tr_i2, tr_i4, tr_i4, ?_⟩
  rw [h1, h2, h3, h4]
  exact tr_bw3 hx hy (tr_130 hp)
theorem tr_cm4 {post : Int32 → St2 → Prop} {f0 f1 : Int32} {a1 a2 : Nat → Int32} {x y : Nat} (S : tr_S x y a1 a2) (hx : x < 128) (hy : y < 128) (hp : post 0 ((nI x ^^^ nI y), (nI x ^^^ nI y), upd a1 (0 : Int32).toNatClampNeg (nI x ^^^ nI y), upd a2 (0 : Int32).toNatClampNeg (nI x ^^^ nI y))) : wpX_combine post (f0, f1, a1, a2) 0 4 2 4 := by
  unfold wpX_combine
  dsimp only
  refine tr_g0 (br_f (by decide) (tr_g2 (br_f (by decide) (tr_g4 (br_f (by decide) (br_f (by decide) (br_t (by decide) (br_t (by decide) (br_f (by decide) ?_)))))))))
  obtain ⟨h1, h2, h3, h4⟩ := S
  refine ⟨tr_i2, tr_i2, tr_i4, tr_i4, ?_⟩
  rw [h1, h2, h3, h4]
  exact tr_bw4 hx hy (tr_130 hp)
theorem tr_cm5 {post : Int32 → St2 → Prop} {f0 f1 : Int32} {a1 a2 : Nat → Int32} {x y : Nat} (S : tr_S x y a1 a2) (hx : x < 128) (hy : y < 128) (hp : post 0 (((nI x * nI y) / 128), ((nI x * nI y) / 128), upd a1 (0 : Int32).toNatClampNeg ((nI x * nI y) / 128), upd a2 (0 : Int32).toNatClampNeg ((nI x * nI y) / 128))) : wpX_combine post (f0, f1, a1, a2) 0 5 2 4 := by
  unfold wpX_combine
  dsimp only
  refine tr_g0 (br_f (by decide) (tr_g2 (br_f (by decide) (tr_g4 (br_f (by decide) (br_f (by decide) (br_t (by decide) (br_t (by decide) (br_t (by decide) (br_f (by decide) ?_))))))))))
  exact tr_mul S hx hy (tr_130 hp)
theorem tr_cm6a {post : Int32 → St2 → Prop} {f0 f1 : Int32} {a1 a2 : Nat → Int32} {x y : Nat} (S : tr_S x y a1 a2) (hx : x < 128) (hy : y < 128) (h : nI y = 0) (hp : post 0 (127, 127, upd a1 (0 : Int32).toNatClampNeg 127, upd a2 (0 : Int32).toNatClampNeg 127)) : wpX_combine post (f0, f1, a1, a2) 0 6 2 4 := by
  unfold wpX_combine
  dsimp only
  refine tr_g0 (br_f (by decide) (tr_g2 (br_f (by decide) (tr_g4 (br_f (by decide) (br_f (by decide) (br_t (by decide) (br_t (by decide) (br_t (by decide) (br_f (by decide) ?_))))))))))
  exact tr_div0 S h (tr_130 hp)
theorem tr_cm6b {post : Int32 → St2 → Prop} {f0 f1 : Int32} {a1 a2 : Nat → Int32} {x y : Nat} (S : tr_S x y a1 a2) (hx : x < 128) (hy : y < 128) (h : ¬ nI y = 0) (hp : post 0 ((nI x / nI y), (nI x / nI y), upd a1 (0 : Int32).toNatClampNeg (nI x / nI y), upd a2 (0 : Int32).toNatClampNeg (nI x / nI y))) : wpX_combine post (f0, f1, a1, a2) 0 6 2 4 := by
  unfold wpX_combine
  dsimp only
  refine tr_g0 (br_f (by decide) (tr_g2 (br_f (by decide) (tr_g4 (br_f (by decide) (br_f (by decide) (br_t (by decide) (br_t (by decide) (br_t (by decide) (br_f (by decide) ?_))))))))))
  exact tr_div1 S hy h (tr_130 hp)
theorem tr_cm7a {post : Int32 → St2 → Prop} {f0 f1 : Int32} {a1 a2 : Nat → Int32} {x y : Nat} (S : tr_S x y a1 a2) (hx : x < 128) (hy : y < 128) (h : nI x ≤ nI y) (hp : post 0 ((nI y), (nI y), upd a1 (0 : Int32).toNatClampNeg (nI y), upd a2 (0 : Int32).toNatClampNeg (nI y))) : wpX_combine post (f0, f1, a1, a2) 0 7 2 4 := by
  unfold wpX_combine
  dsimp only
  refine tr_g0 (br_f (by decide) (tr_g2 (br_f (by decide) (tr_g4 (br_f (by decide) (br_f (by decide) (br_t (by decide) (br_t (by decide) (br_t (by decide) (br_t (by decide) (br_f (by decide) ?_)))))))))))
  exact tr_max1 S h (tr_130 hp)
theorem tr_cm7b {post : Int32 → St2 → Prop} {f0 f1 : Int32} {a1 a2 : Nat → Int32} {x y : Nat} (S : tr_S x y a1 a2) (hx : x < 128) (hy : y < 128) (h : ¬ nI x ≤ nI y) (hp : post 0 ((nI x), (nI x), upd a1 (0 : Int32).toNatClampNeg (nI x), upd a2 (0 : Int32).toNatClampNeg (nI x))) : wpX_combine post (f0, f1, a1, a2) 0 7 2 4 := by
  unfold wpX_combine
  dsimp only
  refine tr_g0 (br_f (by decide) (tr_g2 (br_f (by decide) (tr_g4 (br_f (by decide) (br_f (by decide) (br_t (by decide) (br_t (by decide) (br_t (by decide) (br_t (by decide) (br_f (by decide) ?_)))))))))))
  exact tr_max2 S h (tr_130 hp)
theorem tr_cm8a {post : Int32 → St2 → Prop} {f0 f1 : Int32} {a1 a2 : Nat → Int32} {x y : Nat} (S : tr_S x y a1 a2) (hx : x < 128) (hy : y < 128) (h : nI x ≤ nI y) (hp : post 0 ((nI y - nI x), (nI y - nI x), upd a1 (0 : Int32).toNatClampNeg (nI y - nI x), upd a2 (0 : Int32).toNatClampNeg (nI y - nI x))) : wpX_combine post (f0, f1, a1, a2) 0 8 2 4 := by
  unfold wpX_combine
  dsimp only
  refine tr_g0 (br_f (by decide) (tr_g2 (br_f (by decide) (tr_g4 (br_f (by decide) (br_f (by decide) (br_t (by decide) (br_t (by decide) (br_t (by decide) (br_t (by decide) (br_t rfl ?_)))))))))))
  exact tr_dst1 S hx hy h (tr_130 hp)
theorem tr_cm8b {post : Int32 → St2 → Prop} {f0 f1 : Int32} {a1 a2 : Nat → Int32} {x y : Nat} (S : tr_S x y a1 a2) (hx : x < 128) (hy : y < 128) (h : ¬ nI x ≤ nI y) (hp : post 0 ((nI x - nI y), (nI x - nI y), upd a1 (0 : Int32).toNatClampNeg (nI x - nI y), upd a2 (0 : Int32).toNatClampNeg (nI x - nI y))) : wpX_combine post (f0, f1, a1, a2) 0 8 2 4 := by
  unfold wpX_combine
  dsimp only
  refine tr_g0 (br_f (by decide) (tr_g2 (br_f (by decide) (tr_g4 (br_f (by decide) (br_f (by decide) (br_t (by decide) (br_t (by decide) (br_t (by decide) (br_t (by decide) (br_t rfl ?_)))))))))))
  exact tr_dst2 S hx hy h (tr_130 hp)
theorem tr_cm10 {post : Int32 → St2 → Prop} {f0 f1 : Int32} {a1 a2 : Nat → Int32} {x y : Nat} (S : tr_S x y a1 a2) (hx : x < 128) (hy : y < 128) (ha : x = y → ∀ u, post 0 u) (hb : x ≠ y → ∀ u, post (-2) u) : wpX_combine post (f0, f1, a1, a2) 5 10 2 4 := by
  obtain ⟨h1, h2, h3, h4⟩ := S
  unfold wpX_combine
  dsimp only
  refine tr_g5 (br_f (by decide) (tr_g2 (br_f (by decide) (tr_g4 (br_f (by decide) (br_f (by decide) (br_t (by decide) (br_t (by decide) (br_t (by decide) (br_t (by decide) (br_f (by decide) (br_f (by decide) (br_t rfl ⟨tr_i2, tr_i4, ?_⟩)))))))))))))
  rw [h1, h2, h3, h4]
  refine pk_le x y (fun g => ⟨tr_i2, tr_i4, pk_le y x (fun g2 => ?_) (fun g2 => ?_)⟩) (fun g => ⟨tr_i2, tr_i4, br_t (nI_le (Nat.le_of_lt g) (by omega)) ?_⟩)
  · exact br_t (Int32.le_refl _) ⟨tr_i5, nm_e ⟨tr_i5, nm_e (ha (by omega) _)⟩⟩
  · exact br_f (nI_ge g2 (by omega)) (hb (by omega) _)
  · exact br_f (nI_ge g (by omega)) (hb (by omega) _)
theorem tr_less {post : Int32 → Prop} {f0 f1 : Int32} {a1 a2 : Nat → Int32} {x y : Nat} (S : tr_S x y a1 a2) (hx : x < 128) (hy : y < 128) (ha : y ≤ x → post 0) (hb : x < y → post 1) : wpX_less post (f0, f1, a1, a2) 2 4 := by
  obtain ⟨h1, h2, h3, h4⟩ := S
  unfold wpX_less
  dsimp only
  refine tr_g2 (br_f (by decide) (tr_g4 (br_f (by decide) ⟨tr_i2, tr_i4, ?_⟩)))
  rw [h1, h2, h3, h4]
  exact pk_le y x (fun g => ⟨tr_i2, tr_i4, br_f (nI_nlt g (by omega)) (ha g)⟩) (fun g => hb g)
theorem tr_apart {post : Int32 → Prop} {f0 f1 : Int32} {a1 a2 : Nat → Int32} {x y : Nat} (S : tr_S x y a1 a2) (hx : x < 128) (hy : y < 128) (hp : post (tr_d y x)) : wpX_apart post (f0, f1, a1, a2) 4 2 := by
  obtain ⟨h1, h2, h3, h4⟩ := S
  unfold wpX_apart
  dsimp only
  refine tr_g4 (br_f (by decide) (tr_g2 (br_f (by decide) ⟨tr_i4, tr_i2, ?_⟩)))
  rw [h1, h2, h3, h4]
  have W : ∀ (P : Int32 → Prop), P (tr_q (y + 1) (x + 1)) → wpX_apartUpTo P () (nI y) (nI x) := fun P h => by
    have t := tr_apu (post := P) (m := y + 1) (n := x + 1) (by omega) (by omega) h
    rw [nI_pred, nI_pred] at t
    exact t
  have W1 : ∀ (P : Int32 → Prop), P (tr_q y (x + 1)) → wpX_apartUpTo P () (nI y - 1) (nI x) := fun P h => by
    have t := tr_apu (post := P) (m := y) (n := x + 1) (by omega) (by omega) h
    rw [nI_pred] at t
    exact t
  have W2 : ∀ (P : Int32 → Prop), P (tr_q (y + 1) x) → wpX_apartUpTo P () (nI y) (nI x - 1) := fun P h => by
    have t := tr_apu (post := P) (m := y + 1) (n := x) (by omega) (by omega) h
    rw [nI_pred] at t
    exact t
  refine W _ ⟨tr_i4, tr_i2, tr_apu (by omega) (by omega) (nm_e ⟨tr_i4, tr_i2, W1 _ ⟨tr_i4, tr_i2, W2 _ ?_⟩⟩)⟩
  rw [tr_diff]
  exact hp
theorem tr_low0 {post : Int32 → Prop} {f0 f1 : Int32} {a1 a2 : Nat → Int32} (hp : post (a1 (0 : Int32).toNatClampNeg)) : wpX_low post (f0, f1, a1, a2) 0 := by
  unfold wpX_low
  dsimp only
  exact tr_g0 (br_f (by decide) ⟨tr_i0, hp⟩)
theorem tr_low1 {post : Int32 → Prop} {f0 f1 : Int32} {a1 a2 : Nat → Int32} (hp : post (a1 (1 : Int32).toNatClampNeg)) : wpX_low post (f0, f1, a1, a2) 1 := by
  unfold wpX_low
  dsimp only
  exact tr_g1 (br_f (by decide) ⟨tr_i1, hp⟩)
theorem tr_high0 {post : Int32 → Prop} {f0 f1 : Int32} {a1 a2 : Nat → Int32} (hp : post (a2 (0 : Int32).toNatClampNeg)) : wpX_high post (f0, f1, a1, a2) 0 := by
  unfold wpX_high
  dsimp only
  exact tr_g0 (br_f (by decide) ⟨tr_i0, hp⟩)
theorem tr_152 {post : Int32 → St2 → Prop} {v w : Int32} {a1 a2 : Nat → Int32} (hp : post 0 (v, w, upd a1 (1 : Int32).toNatClampNeg v, upd a2 (1 : Int32).toNatClampNeg w)) : wX_apply_152 post 1 v w a1 a2 :=
  ⟨tr_i1, nm_e ⟨tr_i1, nm_e hp⟩⟩
theorem tr_ap4 {post : Int32 → St2 → Prop} {f0 f1 : Int32} {a1 a2 : Nat → Int32} {x y : Nat} (S : tr_S x y a1 a2) (hx : x < 128) (hp : ∀ w, post 0 (((nI x <<< ((1 : Int32) &&& 31)) &&& 127), w, upd a1 (1 : Int32).toNatClampNeg ((nI x <<< ((1 : Int32) &&& 31)) &&& 127), upd a2 (1 : Int32).toNatClampNeg w)) : wpX_apply post (f0, f1, a1, a2) 1 4 2 := by
  obtain ⟨h1, h2, h3, h4⟩ := S
  unfold wpX_apply
  dsimp only
  refine tr_g1 (br_f (by decide) (tr_g2 (br_f (by decide) (br_f (by decide) (br_t (by decide) ⟨tr_i2, nm_r h1 ⟨tr_i2, nm_r h2 (br_f (by decide) (br_f (by decide) (br_f (by decide) (br_f (by decide) ?_))))⟩⟩)))))
  refine pk_le 64 x (fun g => br_f (nI_nlt (b := 64) g (by omega)) ?_) (fun g => ?_)
  · have t := tr_152 (hp (2 * nI x - 128))
    rw [← tr_dbl2 x hx g] at t
    exact t
  · have t := tr_152 (hp (2 * nI x))
    rw [← tr_dbl1 x g] at t
    exact t
theorem tr_ap2 {post : Int32 → St2 → Prop} {f0 f1 : Int32} {a1 a2 : Nat → Int32} {x y : Nat} (S : tr_S x y a1 a2) (hx : x < 128) (hp : ∀ w, post 0 (tr_rev (nI x), w, upd a1 (1 : Int32).toNatClampNeg (tr_rev (nI x)), upd a2 (1 : Int32).toNatClampNeg w)) : wpX_apply post (f0, f1, a1, a2) 1 2 2 := by
  obtain ⟨h1, h2, h3, h4⟩ := S
  unfold wpX_apply
  dsimp only
  refine tr_g1 (br_f (by decide) (tr_g2 (br_f (by decide) (br_f (by decide) (br_t (by decide) ⟨tr_i2, nm_r h1 ⟨tr_i2, nm_r h2 (br_f (by decide) (br_f (by decide) (br_t rfl (tr_reversed (tr_reversed ?_)))))⟩⟩)))))
  have t := tr_152 (hp (tr_rs (nI x) 1 7).2)
  rw [← tr_rsl x hx] at t
  exact t
end
section
theorem tr_382 {post : Int32 → St0 → Prop} {mc ms kc ks x y : Nat} {s z0 f0 f1 : Int32} {a1 a2 : Nat → Int32} (S : tr_S x y a1 a2) (hx : x < 128) (hy : y < 128)
    (C : ∀ ψ : Int32 → St2 → Prop, (∀ w, ψ 0 (s, w, upd a1 (1 : Int32).toNatClampNeg s, upd a2 (1 : Int32).toNatClampNeg w)) → wpX_apply ψ (f0, f1, a1, a2) 1 z0 2) (hp : post 1 ()) :
    wL_lawOf_382 post mc ms (nI x) (nI y) s z0 1 kc ks f0 f1 a1 a2 := by
  refine C _ (fun w => br_t rfl (tr_low1 (br_t pk_us ?_)))
  refine tr_cm10 (tr_Su S (by decide) (by decide)) hx hy (fun e u => ?_) (fun e u => ?_)
  · exact br_t (by rw [e]) (br_t rfl hp)
  · exact br_f (by rw [nI_eq (by omega) (by omega)]; exact e) (br_t rfl hp)
theorem tr_296 {post : Int32 → St0 → Prop} {mc ms kc ks x y : Nat} {x3 z f0 f1 : Int32} {a1 a2 : Nat → Int32} (S : tr_S x y a1 a2) (hx : x < 128) (hy : y < 128) (hp : post 1 ()) :
    wL_lawOf_296 post mc ms x3 (nI x) (nI y) z z kc ks f0 f1 a1 a2 :=
  br_t rfl (br_c
    (fun g => br_t g (tr_382 S hx hy (fun ψ h => tr_ap4 S hx h) hp))
    (fun g => br_f g (tr_382 S hx hy (fun ψ h => tr_ap2 S hx h) hp)))
theorem tr_273 {post : Int32 → St0 → Prop} {mc ms kc ks x y : Nat} {x3 z f0 f1 : Int32} {a1 a2 : Nat → Int32} (S : tr_S x y a1 a2) (hx : x < 128) (hy : y < 128) (hp : post 1 ()) :
    wL_lawOf_273 post mc ms x3 (nI x) (nI y) z z kc ks f0 f1 a1 a2 := by
  refine br_t rfl (tr_apart S hx hy ?_)
  have hl : x &&& y ≤ x := Nat.and_le_left
  by_cases e : y &&& x = 0
  · rw [show tr_d y x = 1 from if_pos e]
    exact br_t (by rw [tr_and, Nat.and_comm, e]; rfl) (tr_296 S hx hy hp)
  · rw [show tr_d y x = 0 from if_neg e]
    refine br_f ?_ (tr_296 S hx hy hp)
    rw [tr_and, ← nI_0, nI_eq (by omega) (by omega), Nat.and_comm]
    exact e
theorem tr_215 {post : Int32 → St0 → Prop} {mc ms kc ks x y : Nat} {x3 x7 v f0 f1 : Int32} {a1 a2 : Nat → Int32} (S : tr_S x y a1 a2) (hx : x < 128) (hy : y < 128)
    (C : ∀ ψ : Int32 → St2 → Prop, ψ 0 (v, v, upd a1 (0 : Int32).toNatClampNeg v, upd a2 (0 : Int32).toNatClampNeg v) → wpX_combine ψ (f0, f1, a1, a2) 0 x7 2 4) (hp : post 1 ()) :
    wL_lawOf_215 post mc ms x3 (nI x) (nI y) x7 v kc ks f0 f1 a1 a2 := by
  have S' : tr_S x y (upd a1 (0 : Int32).toNatClampNeg v) (upd a2 (0 : Int32).toNatClampNeg v) := tr_Su S (by decide) (by decide)
  refine C _ (br_t rfl (tr_low0 (br_t pk_us (tr_high0 (br_t pk_us (tr_less S' hx hy (fun g => ?_) (fun g => ?_)))))))
  · exact br_t (nI_le g (by omega)) (tr_273 S' hx hy hp)
  · exact br_f (nI_ge g (by omega)) (tr_273 S' hx hy hp)
theorem tr_k9 {k : Nat} (hk : k < 9) (h : ∀ j, j < 8 → ¬ nI k = nI j) : nI k = 8 := by
  have e : k = 8 := by
    rcases Nat.lt_or_ge k 8 with z | z
    · exact absurd rfl (h k z)
    · omega
  rw [e]
  rfl
theorem tr_lawOf {post : Int32 → St0 → Prop} {p0 p1 p2 p3 : Int32} (hp : post 1 ()) : wpL_lawOf post 14 224 () p0 p1 p2 p3 := by
  obtain ⟨x, hx, ex⟩ := pk_andE p0 (m := 127) 7 (by decide)
  obtain ⟨y, hy, ey⟩ := pk_andE p1 (m := 127) 7 (by decide)
  obtain ⟨j, hj, ej⟩ := pk_andE p2 (m := 255) 8 (by decide)
  have hx : x < 128 := hx
  have hy : y < 128 := hy
  have ek : nI j - nI j / 9 * 9 = nI (j % 9) := pk_rem (d := 9) (by omega) (by decide) (by decide)
  have hk : j % 9 < 9 := by omega
  rw [← ej] at ek
  generalize j % 9 = k at ek hk
  refine ⟨by decide, by decide, 2, 12, by decide, by decide, tr_init (by decide) (by decide) (fun a1 a2 => nm_r ex (nm_r ey (tr_set2 hx (fun _ => tr_set4 hy (fun _ => ⟨by decide, nm_r ek ?_⟩)))))⟩
  have S : tr_S x y (upd (upd a1 (2 : Int32).toNatClampNeg (nI x)) (4 : Int32).toNatClampNeg (nI y)) (upd (upd a2 (2 : Int32).toNatClampNeg (nI x)) (4 : Int32).toNatClampNeg (nI y)) :=
    ⟨(pk_un (by decide)).trans pk_us, (pk_un (by decide)).trans pk_us, pk_us, pk_us⟩
  generalize upd (upd a1 (2 : Int32).toNatClampNeg (nI x)) (4 : Int32).toNatClampNeg (nI y) = b1 at S ⊢
  generalize upd (upd a2 (2 : Int32).toNatClampNeg (nI x)) (4 : Int32).toNatClampNeg (nI y) = b2 at S ⊢
  refine br_c (fun g => ?_) (fun g0 => br_c (fun g => ?_) (fun g1 => br_c (fun g => ?_) (fun g2 => br_c (fun g => ?_) (fun g3 => br_c (fun g => ?_) (fun g4 => br_c (fun g => ⟨by decide, ?_⟩) (fun g5 => br_c (fun g => br_c (fun h => ?_) (fun h => ⟨h, ?_⟩)) (fun g6 => br_c (fun g => br_c (fun h => ?_) (fun h => ?_)) (fun g7 => ?_))))))))
  · rw [g]; exact tr_215 S hx hy (fun ψ h => tr_cm0 S hx hy h) hp
  · rw [g]; exact tr_215 S hx hy (fun ψ h => tr_cm1 S hx hy h) hp
  · rw [g]; exact tr_215 S hx hy (fun ψ h => tr_cm2 S hx hy h) hp
  · rw [g]; exact tr_215 S hx hy (fun ψ h => tr_cm3 S hx hy h) hp
  · rw [g]; exact tr_215 S hx hy (fun ψ h => tr_cm4 S hx hy h) hp
  · rw [g]; exact tr_215 S hx hy (fun ψ h => tr_cm5 S hx hy h) hp
  · rw [g]; exact tr_215 S hx hy (fun ψ t => tr_cm6a S hx hy h t) hp
  · rw [g]; exact tr_215 S hx hy (fun ψ t => tr_cm6b S hx hy h t) hp
  · rw [g]; exact tr_215 S hx hy (fun ψ t => tr_cm7a S hx hy h t) hp
  · rw [g]; exact tr_215 S hx hy (fun ψ t => tr_cm7b S hx hy h t) hp
  · have g8 : nI k = 8 := tr_k9 hk (fun i hi => by
      rcases (show i = 0 ∨ i = 1 ∨ i = 2 ∨ i = 3 ∨ i = 4 ∨ i = 5 ∨ i = 6 ∨ i = 7 by omega) with rfl | rfl | rfl | rfl | rfl | rfl | rfl | rfl
      · exact g0
      · exact g1
      · exact g2
      · exact g3
      · exact g4
      · exact g5
      · exact g6
      · exact g7)
    rw [g8]
    exact br_c (fun h => tr_215 S hx hy (fun ψ t => tr_cm8a S hx hy h t) hp) (fun h => tr_215 S hx hy (fun ψ t => tr_cm8b S hx hy h t) hp)
theorem tr_cell {post : Int32 → Prop} {L : Nat} {xs : Nat → Int32} (hL : L ≤ 4) (j : Nat) (hj : j < 4) (h : ∀ r, post r) : wpL_cellAt post L xs () (nI j) :=
  pk_le L j (fun _ => h _) (fun g => ⟨pk_in j L g, h _⟩)
theorem i_vc (xs : Nat → Int32) (L : Nat) (hL : L ≤ 4) : wpL_law (fun r => r = 1) L xs :=
  tr_cell hL 0 (by omega) (fun _ => tr_cell hL 1 (by omega) (fun _ => tr_cell hL 2 (by omega) (fun _ => tr_cell hL 3 (by omega) (fun _ => ⟨14, 224, by decide, by decide, tr_lawOf rfl⟩))))
end
