/-! DETERMINANTS (printed by gen/gdet.py): by the first row; identities up to 5 x 5 -/
def zk_sg (c : Nat) : Int := if c % 2 = 0 then 1 else -1
def zk_sk (c j : Nat) : Nat := if j < c then j else j + 1
def zk_dt : Nat → (Nat → Nat → Int) → Int
  | 0, _ => 1
  | k + 1, b => fb_si (fun c => zk_sg c * b 0 c * zk_dt k (fun i j => b (i + 1) (zk_sk c j))) (k + 1)
/-- a cofactor of a matrix of the size k + 1 -/
def zk_cf (k : Nat) (b : Nat → Nat → Int) (i j : Nat) : Int := zk_sg (i + j) * zk_dt k (fun p q => b (zk_sk i p) (zk_sk j q))

theorem zk_TR1 (b : Nat → Nat → Int) : zk_dt 1 (fun i j => b j i) = zk_dt 1 b := by
  simp only [zk_dt, zk_cf, fb_si, zk_sg, zk_sk, Nat.reduceAdd, Nat.reduceMod, Nat.reduceLT, Nat.reduceEqDiff, if_true, if_false, reduceIte, Nat.zero_add, Int.zero_add, Int.one_mul]
  try grind
theorem zk_A1_0_0 (b : Nat → Nat → Int) : fb_si (fun i => zk_cf 0 b i 0 * b i 0) 1 = zk_dt 1 b := by
  simp only [zk_dt, zk_cf, fb_si, zk_sg, zk_sk, Nat.reduceAdd, Nat.reduceMod, Nat.reduceLT, Nat.reduceEqDiff, if_true, if_false, reduceIte, Nat.zero_add, Int.zero_add, Int.one_mul]
  try grind
theorem zk_T1_0 (b : Nat → Nat → Int) : fb_si (fun j => zk_cf 0 b 0 j) 1 = zk_sg 0 * zk_dt 0 (fun p q => b (zk_sk 0 q) (p + 1) - b (zk_sk 0 q) 0) := by
  simp only [zk_dt, zk_cf, fb_si, zk_sg, zk_sk, Nat.reduceAdd, Nat.reduceMod, Nat.reduceLT, Nat.reduceEqDiff, if_true, if_false, reduceIte, Nat.zero_add, Int.zero_add, Int.one_mul]
  try grind
theorem zk_E1_0 (b : Nat → Nat → Int) : zk_dt 1 b = zk_sg 0 * zk_dt 1 (fun i a => b i (if a < 0 then a else if a = 0 then 0 else a - 1)) := by
  simp only [zk_dt, zk_cf, fb_si, zk_sg, zk_sk, Nat.reduceAdd, Nat.reduceMod, Nat.reduceLT, Nat.reduceEqDiff, if_true, if_false, reduceIte, Nat.zero_add, Int.zero_add, Int.one_mul, Nat.reduceSub]
  try grind
theorem zk_TR2 (b : Nat → Nat → Int) : zk_dt 2 (fun i j => b j i) = zk_dt 2 b := by
  simp only [zk_dt, zk_cf, fb_si, zk_sg, zk_sk, Nat.reduceAdd, Nat.reduceMod, Nat.reduceLT, Nat.reduceEqDiff, if_true, if_false, reduceIte, Nat.zero_add, Int.zero_add, Int.one_mul]
  try grind
theorem zk_A2_0_0 (b : Nat → Nat → Int) : fb_si (fun i => zk_cf 1 b i 0 * b i 0) 2 = zk_dt 2 b := by
  simp only [zk_dt, zk_cf, fb_si, zk_sg, zk_sk, Nat.reduceAdd, Nat.reduceMod, Nat.reduceLT, Nat.reduceEqDiff, if_true, if_false, reduceIte, Nat.zero_add, Int.zero_add, Int.one_mul]
  try grind
theorem zk_A2_0_1 (b : Nat → Nat → Int) : fb_si (fun i => zk_cf 1 b i 0 * b i 1) 2 = 0 := by
  simp only [zk_dt, zk_cf, fb_si, zk_sg, zk_sk, Nat.reduceAdd, Nat.reduceMod, Nat.reduceLT, Nat.reduceEqDiff, if_true, if_false, reduceIte, Nat.zero_add, Int.zero_add, Int.one_mul]
  try grind
theorem zk_A2_1_0 (b : Nat → Nat → Int) : fb_si (fun i => zk_cf 1 b i 1 * b i 0) 2 = 0 := by
  simp only [zk_dt, zk_cf, fb_si, zk_sg, zk_sk, Nat.reduceAdd, Nat.reduceMod, Nat.reduceLT, Nat.reduceEqDiff, if_true, if_false, reduceIte, Nat.zero_add, Int.zero_add, Int.one_mul]
  try grind
theorem zk_A2_1_1 (b : Nat → Nat → Int) : fb_si (fun i => zk_cf 1 b i 1 * b i 1) 2 = zk_dt 2 b := by
  simp only [zk_dt, zk_cf, fb_si, zk_sg, zk_sk, Nat.reduceAdd, Nat.reduceMod, Nat.reduceLT, Nat.reduceEqDiff, if_true, if_false, reduceIte, Nat.zero_add, Int.zero_add, Int.one_mul]
  try grind
theorem zk_T2_0 (b : Nat → Nat → Int) : fb_si (fun j => zk_cf 1 b 0 j) 2 = zk_sg 0 * zk_dt 1 (fun p q => b (zk_sk 0 q) (p + 1) - b (zk_sk 0 q) 0) := by
  simp only [zk_dt, zk_cf, fb_si, zk_sg, zk_sk, Nat.reduceAdd, Nat.reduceMod, Nat.reduceLT, Nat.reduceEqDiff, if_true, if_false, reduceIte, Nat.zero_add, Int.zero_add, Int.one_mul]
  try grind
theorem zk_T2_1 (b : Nat → Nat → Int) : fb_si (fun j => zk_cf 1 b 1 j) 2 = zk_sg 1 * zk_dt 1 (fun p q => b (zk_sk 1 q) (p + 1) - b (zk_sk 1 q) 0) := by
  simp only [zk_dt, zk_cf, fb_si, zk_sg, zk_sk, Nat.reduceAdd, Nat.reduceMod, Nat.reduceLT, Nat.reduceEqDiff, if_true, if_false, reduceIte, Nat.zero_add, Int.zero_add, Int.one_mul]
  try grind
theorem zk_E2_0 (b : Nat → Nat → Int) : zk_dt 2 b = zk_sg 1 * zk_dt 2 (fun i a => b i (if a < 0 then a else if a = 0 then 1 else a - 1)) := by
  simp only [zk_dt, zk_cf, fb_si, zk_sg, zk_sk, Nat.reduceAdd, Nat.reduceMod, Nat.reduceLT, Nat.reduceEqDiff, if_true, if_false, reduceIte, Nat.zero_add, Int.zero_add, Int.one_mul, Nat.reduceSub]
  try grind
theorem zk_E2_1 (b : Nat → Nat → Int) : zk_dt 2 b = zk_sg 0 * zk_dt 2 (fun i a => b i (if a < 1 then a else if a = 1 then 1 else a - 1)) := by
  simp only [zk_dt, zk_cf, fb_si, zk_sg, zk_sk, Nat.reduceAdd, Nat.reduceMod, Nat.reduceLT, Nat.reduceEqDiff, if_true, if_false, reduceIte, Nat.zero_add, Int.zero_add, Int.one_mul, Nat.reduceSub]
  try grind
theorem zk_TR3 (b : Nat → Nat → Int) : zk_dt 3 (fun i j => b j i) = zk_dt 3 b := by
  simp only [zk_dt, zk_cf, fb_si, zk_sg, zk_sk, Nat.reduceAdd, Nat.reduceMod, Nat.reduceLT, Nat.reduceEqDiff, if_true, if_false, reduceIte, Nat.zero_add, Int.zero_add, Int.one_mul]
  try grind
theorem zk_A3_0_0 (b : Nat → Nat → Int) : fb_si (fun i => zk_cf 2 b i 0 * b i 0) 3 = zk_dt 3 b := by
  simp only [zk_dt, zk_cf, fb_si, zk_sg, zk_sk, Nat.reduceAdd, Nat.reduceMod, Nat.reduceLT, Nat.reduceEqDiff, if_true, if_false, reduceIte, Nat.zero_add, Int.zero_add, Int.one_mul]
  try grind
theorem zk_A3_0_1 (b : Nat → Nat → Int) : fb_si (fun i => zk_cf 2 b i 0 * b i 1) 3 = 0 := by
  simp only [zk_dt, zk_cf, fb_si, zk_sg, zk_sk, Nat.reduceAdd, Nat.reduceMod, Nat.reduceLT, Nat.reduceEqDiff, if_true, if_false, reduceIte, Nat.zero_add, Int.zero_add, Int.one_mul]
  try grind
theorem zk_A3_0_2 (b : Nat → Nat → Int) : fb_si (fun i => zk_cf 2 b i 0 * b i 2) 3 = 0 := by
  simp only [zk_dt, zk_cf, fb_si, zk_sg, zk_sk, Nat.reduceAdd, Nat.reduceMod, Nat.reduceLT, Nat.reduceEqDiff, if_true, if_false, reduceIte, Nat.zero_add, Int.zero_add, Int.one_mul]
  try grind
theorem zk_A3_1_0 (b : Nat → Nat → Int) : fb_si (fun i => zk_cf 2 b i 1 * b i 0) 3 = 0 := by
  simp only [zk_dt, zk_cf, fb_si, zk_sg, zk_sk, Nat.reduceAdd, Nat.reduceMod, Nat.reduceLT, Nat.reduceEqDiff, if_true, if_false, reduceIte, Nat.zero_add, Int.zero_add, Int.one_mul]
  try grind
theorem zk_A3_1_1 (b : Nat → Nat → Int) : fb_si (fun i => zk_cf 2 b i 1 * b i 1) 3 = zk_dt 3 b := by
  simp only [zk_dt, zk_cf, fb_si, zk_sg, zk_sk, Nat.reduceAdd, Nat.reduceMod, Nat.reduceLT, Nat.reduceEqDiff, if_true, if_false, reduceIte, Nat.zero_add, Int.zero_add, Int.one_mul]
  try grind
theorem zk_A3_1_2 (b : Nat → Nat → Int) : fb_si (fun i => zk_cf 2 b i 1 * b i 2) 3 = 0 := by
  simp only [zk_dt, zk_cf, fb_si, zk_sg, zk_sk, Nat.reduceAdd, Nat.reduceMod, Nat.reduceLT, Nat.reduceEqDiff, if_true, if_false, reduceIte, Nat.zero_add, Int.zero_add, Int.one_mul]
  try grind
theorem zk_A3_2_0 (b : Nat → Nat → Int) : fb_si (fun i => zk_cf 2 b i 2 * b i 0) 3 = 0 := by
  simp only [zk_dt, zk_cf, fb_si, zk_sg, zk_sk, Nat.reduceAdd, Nat.reduceMod, Nat.reduceLT, Nat.reduceEqDiff, if_true, if_false, reduceIte, Nat.zero_add, Int.zero_add, Int.one_mul]
  try grind
theorem zk_A3_2_1 (b : Nat → Nat → Int) : fb_si (fun i => zk_cf 2 b i 2 * b i 1) 3 = 0 := by
  simp only [zk_dt, zk_cf, fb_si, zk_sg, zk_sk, Nat.reduceAdd, Nat.reduceMod, Nat.reduceLT, Nat.reduceEqDiff, if_true, if_false, reduceIte, Nat.zero_add, Int.zero_add, Int.one_mul]
  try grind
theorem zk_A3_2_2 (b : Nat → Nat → Int) : fb_si (fun i => zk_cf 2 b i 2 * b i 2) 3 = zk_dt 3 b := by
  simp only [zk_dt, zk_cf, fb_si, zk_sg, zk_sk, Nat.reduceAdd, Nat.reduceMod, Nat.reduceLT, Nat.reduceEqDiff, if_true, if_false, reduceIte, Nat.zero_add, Int.zero_add, Int.one_mul]
  try grind
theorem zk_T3_0 (b : Nat → Nat → Int) : fb_si (fun j => zk_cf 2 b 0 j) 3 = zk_sg 0 * zk_dt 2 (fun p q => b (zk_sk 0 q) (p + 1) - b (zk_sk 0 q) 0) := by
  simp only [zk_dt, zk_cf, fb_si, zk_sg, zk_sk, Nat.reduceAdd, Nat.reduceMod, Nat.reduceLT, Nat.reduceEqDiff, if_true, if_false, reduceIte, Nat.zero_add, Int.zero_add, Int.one_mul]
  try grind
theorem zk_T3_1 (b : Nat → Nat → Int) : fb_si (fun j => zk_cf 2 b 1 j) 3 = zk_sg 1 * zk_dt 2 (fun p q => b (zk_sk 1 q) (p + 1) - b (zk_sk 1 q) 0) := by
  simp only [zk_dt, zk_cf, fb_si, zk_sg, zk_sk, Nat.reduceAdd, Nat.reduceMod, Nat.reduceLT, Nat.reduceEqDiff, if_true, if_false, reduceIte, Nat.zero_add, Int.zero_add, Int.one_mul]
  try grind
theorem zk_T3_2 (b : Nat → Nat → Int) : fb_si (fun j => zk_cf 2 b 2 j) 3 = zk_sg 2 * zk_dt 2 (fun p q => b (zk_sk 2 q) (p + 1) - b (zk_sk 2 q) 0) := by
  simp only [zk_dt, zk_cf, fb_si, zk_sg, zk_sk, Nat.reduceAdd, Nat.reduceMod, Nat.reduceLT, Nat.reduceEqDiff, if_true, if_false, reduceIte, Nat.zero_add, Int.zero_add, Int.one_mul]
  try grind
theorem zk_E3_0 (b : Nat → Nat → Int) : zk_dt 3 b = zk_sg 2 * zk_dt 3 (fun i a => b i (if a < 0 then a else if a = 0 then 2 else a - 1)) := by
  simp only [zk_dt, zk_cf, fb_si, zk_sg, zk_sk, Nat.reduceAdd, Nat.reduceMod, Nat.reduceLT, Nat.reduceEqDiff, if_true, if_false, reduceIte, Nat.zero_add, Int.zero_add, Int.one_mul, Nat.reduceSub]
  try grind
theorem zk_E3_1 (b : Nat → Nat → Int) : zk_dt 3 b = zk_sg 1 * zk_dt 3 (fun i a => b i (if a < 1 then a else if a = 1 then 2 else a - 1)) := by
  simp only [zk_dt, zk_cf, fb_si, zk_sg, zk_sk, Nat.reduceAdd, Nat.reduceMod, Nat.reduceLT, Nat.reduceEqDiff, if_true, if_false, reduceIte, Nat.zero_add, Int.zero_add, Int.one_mul, Nat.reduceSub]
  try grind
theorem zk_E3_2 (b : Nat → Nat → Int) : zk_dt 3 b = zk_sg 0 * zk_dt 3 (fun i a => b i (if a < 2 then a else if a = 2 then 2 else a - 1)) := by
  simp only [zk_dt, zk_cf, fb_si, zk_sg, zk_sk, Nat.reduceAdd, Nat.reduceMod, Nat.reduceLT, Nat.reduceEqDiff, if_true, if_false, reduceIte, Nat.zero_add, Int.zero_add, Int.one_mul, Nat.reduceSub]
  try grind
theorem zk_TR4 (b : Nat → Nat → Int) : zk_dt 4 (fun i j => b j i) = zk_dt 4 b := by
  simp only [zk_dt, zk_cf, fb_si, zk_sg, zk_sk, Nat.reduceAdd, Nat.reduceMod, Nat.reduceLT, Nat.reduceEqDiff, if_true, if_false, reduceIte, Nat.zero_add, Int.zero_add, Int.one_mul]
  try grind
theorem zk_A4_0_0 (b : Nat → Nat → Int) : fb_si (fun i => zk_cf 3 b i 0 * b i 0) 4 = zk_dt 4 b := by
  simp only [zk_dt, zk_cf, fb_si, zk_sg, zk_sk, Nat.reduceAdd, Nat.reduceMod, Nat.reduceLT, Nat.reduceEqDiff, if_true, if_false, reduceIte, Nat.zero_add, Int.zero_add, Int.one_mul]
  try grind
theorem zk_A4_0_1 (b : Nat → Nat → Int) : fb_si (fun i => zk_cf 3 b i 0 * b i 1) 4 = 0 := by
  simp only [zk_dt, zk_cf, fb_si, zk_sg, zk_sk, Nat.reduceAdd, Nat.reduceMod, Nat.reduceLT, Nat.reduceEqDiff, if_true, if_false, reduceIte, Nat.zero_add, Int.zero_add, Int.one_mul]
  try grind
theorem zk_A4_0_2 (b : Nat → Nat → Int) : fb_si (fun i => zk_cf 3 b i 0 * b i 2) 4 = 0 := by
  simp only [zk_dt, zk_cf, fb_si, zk_sg, zk_sk, Nat.reduceAdd, Nat.reduceMod, Nat.reduceLT, Nat.reduceEqDiff, if_true, if_false, reduceIte, Nat.zero_add, Int.zero_add, Int.one_mul]
  try grind
theorem zk_A4_0_3 (b : Nat → Nat → Int) : fb_si (fun i => zk_cf 3 b i 0 * b i 3) 4 = 0 := by
  simp only [zk_dt, zk_cf, fb_si, zk_sg, zk_sk, Nat.reduceAdd, Nat.reduceMod, Nat.reduceLT, Nat.reduceEqDiff, if_true, if_false, reduceIte, Nat.zero_add, Int.zero_add, Int.one_mul]
  try grind
theorem zk_A4_1_0 (b : Nat → Nat → Int) : fb_si (fun i => zk_cf 3 b i 1 * b i 0) 4 = 0 := by
  simp only [zk_dt, zk_cf, fb_si, zk_sg, zk_sk, Nat.reduceAdd, Nat.reduceMod, Nat.reduceLT, Nat.reduceEqDiff, if_true, if_false, reduceIte, Nat.zero_add, Int.zero_add, Int.one_mul]
  try grind
theorem zk_A4_1_1 (b : Nat → Nat → Int) : fb_si (fun i => zk_cf 3 b i 1 * b i 1) 4 = zk_dt 4 b := by
  simp only [zk_dt, zk_cf, fb_si, zk_sg, zk_sk, Nat.reduceAdd, Nat.reduceMod, Nat.reduceLT, Nat.reduceEqDiff, if_true, if_false, reduceIte, Nat.zero_add, Int.zero_add, Int.one_mul]
  try grind
theorem zk_A4_1_2 (b : Nat → Nat → Int) : fb_si (fun i => zk_cf 3 b i 1 * b i 2) 4 = 0 := by
  simp only [zk_dt, zk_cf, fb_si, zk_sg, zk_sk, Nat.reduceAdd, Nat.reduceMod, Nat.reduceLT, Nat.reduceEqDiff, if_true, if_false, reduceIte, Nat.zero_add, Int.zero_add, Int.one_mul]
  try grind
theorem zk_A4_1_3 (b : Nat → Nat → Int) : fb_si (fun i => zk_cf 3 b i 1 * b i 3) 4 = 0 := by
  simp only [zk_dt, zk_cf, fb_si, zk_sg, zk_sk, Nat.reduceAdd, Nat.reduceMod, Nat.reduceLT, Nat.reduceEqDiff, if_true, if_false, reduceIte, Nat.zero_add, Int.zero_add, Int.one_mul]
  try grind
theorem zk_A4_2_0 (b : Nat → Nat → Int) : fb_si (fun i => zk_cf 3 b i 2 * b i 0) 4 = 0 := by
  simp only [zk_dt, zk_cf, fb_si, zk_sg, zk_sk, Nat.reduceAdd, Nat.reduceMod, Nat.reduceLT, Nat.reduceEqDiff, if_true, if_false, reduceIte, Nat.zero_add, Int.zero_add, Int.one_mul]
  try grind
theorem zk_A4_2_1 (b : Nat → Nat → Int) : fb_si (fun i => zk_cf 3 b i 2 * b i 1) 4 = 0 := by
  simp only [zk_dt, zk_cf, fb_si, zk_sg, zk_sk, Nat.reduceAdd, Nat.reduceMod, Nat.reduceLT, Nat.reduceEqDiff, if_true, if_false, reduceIte, Nat.zero_add, Int.zero_add, Int.one_mul]
  try grind
theorem zk_A4_2_2 (b : Nat → Nat → Int) : fb_si (fun i => zk_cf 3 b i 2 * b i 2) 4 = zk_dt 4 b := by
  simp only [zk_dt, zk_cf, fb_si, zk_sg, zk_sk, Nat.reduceAdd, Nat.reduceMod, Nat.reduceLT, Nat.reduceEqDiff, if_true, if_false, reduceIte, Nat.zero_add, Int.zero_add, Int.one_mul]
  try grind
theorem zk_A4_2_3 (b : Nat → Nat → Int) : fb_si (fun i => zk_cf 3 b i 2 * b i 3) 4 = 0 := by
  simp only [zk_dt, zk_cf, fb_si, zk_sg, zk_sk, Nat.reduceAdd, Nat.reduceMod, Nat.reduceLT, Nat.reduceEqDiff, if_true, if_false, reduceIte, Nat.zero_add, Int.zero_add, Int.one_mul]
  try grind
theorem zk_A4_3_0 (b : Nat → Nat → Int) : fb_si (fun i => zk_cf 3 b i 3 * b i 0) 4 = 0 := by
  simp only [zk_dt, zk_cf, fb_si, zk_sg, zk_sk, Nat.reduceAdd, Nat.reduceMod, Nat.reduceLT, Nat.reduceEqDiff, if_true, if_false, reduceIte, Nat.zero_add, Int.zero_add, Int.one_mul]
  try grind
theorem zk_A4_3_1 (b : Nat → Nat → Int) : fb_si (fun i => zk_cf 3 b i 3 * b i 1) 4 = 0 := by
  simp only [zk_dt, zk_cf, fb_si, zk_sg, zk_sk, Nat.reduceAdd, Nat.reduceMod, Nat.reduceLT, Nat.reduceEqDiff, if_true, if_false, reduceIte, Nat.zero_add, Int.zero_add, Int.one_mul]
  try grind
theorem zk_A4_3_2 (b : Nat → Nat → Int) : fb_si (fun i => zk_cf 3 b i 3 * b i 2) 4 = 0 := by
  simp only [zk_dt, zk_cf, fb_si, zk_sg, zk_sk, Nat.reduceAdd, Nat.reduceMod, Nat.reduceLT, Nat.reduceEqDiff, if_true, if_false, reduceIte, Nat.zero_add, Int.zero_add, Int.one_mul]
  try grind
theorem zk_A4_3_3 (b : Nat → Nat → Int) : fb_si (fun i => zk_cf 3 b i 3 * b i 3) 4 = zk_dt 4 b := by
  simp only [zk_dt, zk_cf, fb_si, zk_sg, zk_sk, Nat.reduceAdd, Nat.reduceMod, Nat.reduceLT, Nat.reduceEqDiff, if_true, if_false, reduceIte, Nat.zero_add, Int.zero_add, Int.one_mul]
  try grind
theorem zk_T4_0 (b : Nat → Nat → Int) : fb_si (fun j => zk_cf 3 b 0 j) 4 = zk_sg 0 * zk_dt 3 (fun p q => b (zk_sk 0 q) (p + 1) - b (zk_sk 0 q) 0) := by
  simp only [zk_dt, zk_cf, fb_si, zk_sg, zk_sk, Nat.reduceAdd, Nat.reduceMod, Nat.reduceLT, Nat.reduceEqDiff, if_true, if_false, reduceIte, Nat.zero_add, Int.zero_add, Int.one_mul]
  try grind
theorem zk_T4_1 (b : Nat → Nat → Int) : fb_si (fun j => zk_cf 3 b 1 j) 4 = zk_sg 1 * zk_dt 3 (fun p q => b (zk_sk 1 q) (p + 1) - b (zk_sk 1 q) 0) := by
  simp only [zk_dt, zk_cf, fb_si, zk_sg, zk_sk, Nat.reduceAdd, Nat.reduceMod, Nat.reduceLT, Nat.reduceEqDiff, if_true, if_false, reduceIte, Nat.zero_add, Int.zero_add, Int.one_mul]
  try grind
theorem zk_T4_2 (b : Nat → Nat → Int) : fb_si (fun j => zk_cf 3 b 2 j) 4 = zk_sg 2 * zk_dt 3 (fun p q => b (zk_sk 2 q) (p + 1) - b (zk_sk 2 q) 0) := by
  simp only [zk_dt, zk_cf, fb_si, zk_sg, zk_sk, Nat.reduceAdd, Nat.reduceMod, Nat.reduceLT, Nat.reduceEqDiff, if_true, if_false, reduceIte, Nat.zero_add, Int.zero_add, Int.one_mul]
  try grind
theorem zk_T4_3 (b : Nat → Nat → Int) : fb_si (fun j => zk_cf 3 b 3 j) 4 = zk_sg 3 * zk_dt 3 (fun p q => b (zk_sk 3 q) (p + 1) - b (zk_sk 3 q) 0) := by
  simp only [zk_dt, zk_cf, fb_si, zk_sg, zk_sk, Nat.reduceAdd, Nat.reduceMod, Nat.reduceLT, Nat.reduceEqDiff, if_true, if_false, reduceIte, Nat.zero_add, Int.zero_add, Int.one_mul]
  try grind
theorem zk_E4_0 (b : Nat → Nat → Int) : zk_dt 4 b = zk_sg 3 * zk_dt 4 (fun i a => b i (if a < 0 then a else if a = 0 then 3 else a - 1)) := by
  simp only [zk_dt, zk_cf, fb_si, zk_sg, zk_sk, Nat.reduceAdd, Nat.reduceMod, Nat.reduceLT, Nat.reduceEqDiff, if_true, if_false, reduceIte, Nat.zero_add, Int.zero_add, Int.one_mul, Nat.reduceSub]
  try grind
theorem zk_E4_1 (b : Nat → Nat → Int) : zk_dt 4 b = zk_sg 2 * zk_dt 4 (fun i a => b i (if a < 1 then a else if a = 1 then 3 else a - 1)) := by
  simp only [zk_dt, zk_cf, fb_si, zk_sg, zk_sk, Nat.reduceAdd, Nat.reduceMod, Nat.reduceLT, Nat.reduceEqDiff, if_true, if_false, reduceIte, Nat.zero_add, Int.zero_add, Int.one_mul, Nat.reduceSub]
  try grind
theorem zk_E4_2 (b : Nat → Nat → Int) : zk_dt 4 b = zk_sg 1 * zk_dt 4 (fun i a => b i (if a < 2 then a else if a = 2 then 3 else a - 1)) := by
  simp only [zk_dt, zk_cf, fb_si, zk_sg, zk_sk, Nat.reduceAdd, Nat.reduceMod, Nat.reduceLT, Nat.reduceEqDiff, if_true, if_false, reduceIte, Nat.zero_add, Int.zero_add, Int.one_mul, Nat.reduceSub]
  try grind
theorem zk_E4_3 (b : Nat → Nat → Int) : zk_dt 4 b = zk_sg 0 * zk_dt 4 (fun i a => b i (if a < 3 then a else if a = 3 then 3 else a - 1)) := by
  simp only [zk_dt, zk_cf, fb_si, zk_sg, zk_sk, Nat.reduceAdd, Nat.reduceMod, Nat.reduceLT, Nat.reduceEqDiff, if_true, if_false, reduceIte, Nat.zero_add, Int.zero_add, Int.one_mul, Nat.reduceSub]
  try grind
theorem zk_TR5 (b : Nat → Nat → Int) : zk_dt 5 (fun i j => b j i) = zk_dt 5 b := by
  simp only [zk_dt, zk_cf, fb_si, zk_sg, zk_sk, Nat.reduceAdd, Nat.reduceMod, Nat.reduceLT, Nat.reduceEqDiff, if_true, if_false, reduceIte, Nat.zero_add, Int.zero_add, Int.one_mul]
  try grind
theorem zk_A5_0_0 (b : Nat → Nat → Int) : fb_si (fun i => zk_cf 4 b i 0 * b i 0) 5 = zk_dt 5 b := by
  simp only [zk_dt, zk_cf, fb_si, zk_sg, zk_sk, Nat.reduceAdd, Nat.reduceMod, Nat.reduceLT, Nat.reduceEqDiff, if_true, if_false, reduceIte, Nat.zero_add, Int.zero_add, Int.one_mul]
  try grind
theorem zk_A5_0_1 (b : Nat → Nat → Int) : fb_si (fun i => zk_cf 4 b i 0 * b i 1) 5 = 0 := by
  simp only [zk_dt, zk_cf, fb_si, zk_sg, zk_sk, Nat.reduceAdd, Nat.reduceMod, Nat.reduceLT, Nat.reduceEqDiff, if_true, if_false, reduceIte, Nat.zero_add, Int.zero_add, Int.one_mul]
  try grind
theorem zk_A5_0_2 (b : Nat → Nat → Int) : fb_si (fun i => zk_cf 4 b i 0 * b i 2) 5 = 0 := by
  simp only [zk_dt, zk_cf, fb_si, zk_sg, zk_sk, Nat.reduceAdd, Nat.reduceMod, Nat.reduceLT, Nat.reduceEqDiff, if_true, if_false, reduceIte, Nat.zero_add, Int.zero_add, Int.one_mul]
  try grind
theorem zk_A5_0_3 (b : Nat → Nat → Int) : fb_si (fun i => zk_cf 4 b i 0 * b i 3) 5 = 0 := by
  simp only [zk_dt, zk_cf, fb_si, zk_sg, zk_sk, Nat.reduceAdd, Nat.reduceMod, Nat.reduceLT, Nat.reduceEqDiff, if_true, if_false, reduceIte, Nat.zero_add, Int.zero_add, Int.one_mul]
  try grind
theorem zk_A5_0_4 (b : Nat → Nat → Int) : fb_si (fun i => zk_cf 4 b i 0 * b i 4) 5 = 0 := by
  simp only [zk_dt, zk_cf, fb_si, zk_sg, zk_sk, Nat.reduceAdd, Nat.reduceMod, Nat.reduceLT, Nat.reduceEqDiff, if_true, if_false, reduceIte, Nat.zero_add, Int.zero_add, Int.one_mul]
  try grind
theorem zk_A5_1_0 (b : Nat → Nat → Int) : fb_si (fun i => zk_cf 4 b i 1 * b i 0) 5 = 0 := by
  simp only [zk_dt, zk_cf, fb_si, zk_sg, zk_sk, Nat.reduceAdd, Nat.reduceMod, Nat.reduceLT, Nat.reduceEqDiff, if_true, if_false, reduceIte, Nat.zero_add, Int.zero_add, Int.one_mul]
  try grind
theorem zk_A5_1_1 (b : Nat → Nat → Int) : fb_si (fun i => zk_cf 4 b i 1 * b i 1) 5 = zk_dt 5 b := by
  simp only [zk_dt, zk_cf, fb_si, zk_sg, zk_sk, Nat.reduceAdd, Nat.reduceMod, Nat.reduceLT, Nat.reduceEqDiff, if_true, if_false, reduceIte, Nat.zero_add, Int.zero_add, Int.one_mul]
  try grind
theorem zk_A5_1_2 (b : Nat → Nat → Int) : fb_si (fun i => zk_cf 4 b i 1 * b i 2) 5 = 0 := by
  simp only [zk_dt, zk_cf, fb_si, zk_sg, zk_sk, Nat.reduceAdd, Nat.reduceMod, Nat.reduceLT, Nat.reduceEqDiff, if_true, if_false, reduceIte, Nat.zero_add, Int.zero_add, Int.one_mul]
  try grind
theorem zk_A5_1_3 (b : Nat → Nat → Int) : fb_si (fun i => zk_cf 4 b i 1 * b i 3) 5 = 0 := by
  simp only [zk_dt, zk_cf, fb_si, zk_sg, zk_sk, Nat.reduceAdd, Nat.reduceMod, Nat.reduceLT, Nat.reduceEqDiff, if_true, if_false, reduceIte, Nat.zero_add, Int.zero_add, Int.one_mul]
  try grind
theorem zk_A5_1_4 (b : Nat → Nat → Int) : fb_si (fun i => zk_cf 4 b i 1 * b i 4) 5 = 0 := by
  simp only [zk_dt, zk_cf, fb_si, zk_sg, zk_sk, Nat.reduceAdd, Nat.reduceMod, Nat.reduceLT, Nat.reduceEqDiff, if_true, if_false, reduceIte, Nat.zero_add, Int.zero_add, Int.one_mul]
  try grind
theorem zk_A5_2_0 (b : Nat → Nat → Int) : fb_si (fun i => zk_cf 4 b i 2 * b i 0) 5 = 0 := by
  simp only [zk_dt, zk_cf, fb_si, zk_sg, zk_sk, Nat.reduceAdd, Nat.reduceMod, Nat.reduceLT, Nat.reduceEqDiff, if_true, if_false, reduceIte, Nat.zero_add, Int.zero_add, Int.one_mul]
  try grind
theorem zk_A5_2_1 (b : Nat → Nat → Int) : fb_si (fun i => zk_cf 4 b i 2 * b i 1) 5 = 0 := by
  simp only [zk_dt, zk_cf, fb_si, zk_sg, zk_sk, Nat.reduceAdd, Nat.reduceMod, Nat.reduceLT, Nat.reduceEqDiff, if_true, if_false, reduceIte, Nat.zero_add, Int.zero_add, Int.one_mul]
  try grind
theorem zk_A5_2_2 (b : Nat → Nat → Int) : fb_si (fun i => zk_cf 4 b i 2 * b i 2) 5 = zk_dt 5 b := by
  simp only [zk_dt, zk_cf, fb_si, zk_sg, zk_sk, Nat.reduceAdd, Nat.reduceMod, Nat.reduceLT, Nat.reduceEqDiff, if_true, if_false, reduceIte, Nat.zero_add, Int.zero_add, Int.one_mul]
  try grind
theorem zk_A5_2_3 (b : Nat → Nat → Int) : fb_si (fun i => zk_cf 4 b i 2 * b i 3) 5 = 0 := by
  simp only [zk_dt, zk_cf, fb_si, zk_sg, zk_sk, Nat.reduceAdd, Nat.reduceMod, Nat.reduceLT, Nat.reduceEqDiff, if_true, if_false, reduceIte, Nat.zero_add, Int.zero_add, Int.one_mul]
  try grind
theorem zk_A5_2_4 (b : Nat → Nat → Int) : fb_si (fun i => zk_cf 4 b i 2 * b i 4) 5 = 0 := by
  simp only [zk_dt, zk_cf, fb_si, zk_sg, zk_sk, Nat.reduceAdd, Nat.reduceMod, Nat.reduceLT, Nat.reduceEqDiff, if_true, if_false, reduceIte, Nat.zero_add, Int.zero_add, Int.one_mul]
  try grind
theorem zk_A5_3_0 (b : Nat → Nat → Int) : fb_si (fun i => zk_cf 4 b i 3 * b i 0) 5 = 0 := by
  simp only [zk_dt, zk_cf, fb_si, zk_sg, zk_sk, Nat.reduceAdd, Nat.reduceMod, Nat.reduceLT, Nat.reduceEqDiff, if_true, if_false, reduceIte, Nat.zero_add, Int.zero_add, Int.one_mul]
  try grind
theorem zk_A5_3_1 (b : Nat → Nat → Int) : fb_si (fun i => zk_cf 4 b i 3 * b i 1) 5 = 0 := by
  simp only [zk_dt, zk_cf, fb_si, zk_sg, zk_sk, Nat.reduceAdd, Nat.reduceMod, Nat.reduceLT, Nat.reduceEqDiff, if_true, if_false, reduceIte, Nat.zero_add, Int.zero_add, Int.one_mul]
  try grind
theorem zk_A5_3_2 (b : Nat → Nat → Int) : fb_si (fun i => zk_cf 4 b i 3 * b i 2) 5 = 0 := by
  simp only [zk_dt, zk_cf, fb_si, zk_sg, zk_sk, Nat.reduceAdd, Nat.reduceMod, Nat.reduceLT, Nat.reduceEqDiff, if_true, if_false, reduceIte, Nat.zero_add, Int.zero_add, Int.one_mul]
  try grind
theorem zk_A5_3_3 (b : Nat → Nat → Int) : fb_si (fun i => zk_cf 4 b i 3 * b i 3) 5 = zk_dt 5 b := by
  simp only [zk_dt, zk_cf, fb_si, zk_sg, zk_sk, Nat.reduceAdd, Nat.reduceMod, Nat.reduceLT, Nat.reduceEqDiff, if_true, if_false, reduceIte, Nat.zero_add, Int.zero_add, Int.one_mul]
  try grind
theorem zk_A5_3_4 (b : Nat → Nat → Int) : fb_si (fun i => zk_cf 4 b i 3 * b i 4) 5 = 0 := by
  simp only [zk_dt, zk_cf, fb_si, zk_sg, zk_sk, Nat.reduceAdd, Nat.reduceMod, Nat.reduceLT, Nat.reduceEqDiff, if_true, if_false, reduceIte, Nat.zero_add, Int.zero_add, Int.one_mul]
  try grind
theorem zk_A5_4_0 (b : Nat → Nat → Int) : fb_si (fun i => zk_cf 4 b i 4 * b i 0) 5 = 0 := by
  simp only [zk_dt, zk_cf, fb_si, zk_sg, zk_sk, Nat.reduceAdd, Nat.reduceMod, Nat.reduceLT, Nat.reduceEqDiff, if_true, if_false, reduceIte, Nat.zero_add, Int.zero_add, Int.one_mul]
  try grind
theorem zk_A5_4_1 (b : Nat → Nat → Int) : fb_si (fun i => zk_cf 4 b i 4 * b i 1) 5 = 0 := by
  simp only [zk_dt, zk_cf, fb_si, zk_sg, zk_sk, Nat.reduceAdd, Nat.reduceMod, Nat.reduceLT, Nat.reduceEqDiff, if_true, if_false, reduceIte, Nat.zero_add, Int.zero_add, Int.one_mul]
  try grind
theorem zk_A5_4_2 (b : Nat → Nat → Int) : fb_si (fun i => zk_cf 4 b i 4 * b i 2) 5 = 0 := by
  simp only [zk_dt, zk_cf, fb_si, zk_sg, zk_sk, Nat.reduceAdd, Nat.reduceMod, Nat.reduceLT, Nat.reduceEqDiff, if_true, if_false, reduceIte, Nat.zero_add, Int.zero_add, Int.one_mul]
  try grind
theorem zk_A5_4_3 (b : Nat → Nat → Int) : fb_si (fun i => zk_cf 4 b i 4 * b i 3) 5 = 0 := by
  simp only [zk_dt, zk_cf, fb_si, zk_sg, zk_sk, Nat.reduceAdd, Nat.reduceMod, Nat.reduceLT, Nat.reduceEqDiff, if_true, if_false, reduceIte, Nat.zero_add, Int.zero_add, Int.one_mul]
  try grind
theorem zk_A5_4_4 (b : Nat → Nat → Int) : fb_si (fun i => zk_cf 4 b i 4 * b i 4) 5 = zk_dt 5 b := by
  simp only [zk_dt, zk_cf, fb_si, zk_sg, zk_sk, Nat.reduceAdd, Nat.reduceMod, Nat.reduceLT, Nat.reduceEqDiff, if_true, if_false, reduceIte, Nat.zero_add, Int.zero_add, Int.one_mul]
  try grind
theorem zk_T5_0 (b : Nat → Nat → Int) : fb_si (fun j => zk_cf 4 b 0 j) 5 = zk_sg 0 * zk_dt 4 (fun p q => b (zk_sk 0 q) (p + 1) - b (zk_sk 0 q) 0) := by
  simp only [zk_dt, zk_cf, fb_si, zk_sg, zk_sk, Nat.reduceAdd, Nat.reduceMod, Nat.reduceLT, Nat.reduceEqDiff, if_true, if_false, reduceIte, Nat.zero_add, Int.zero_add, Int.one_mul]
  try grind
theorem zk_T5_1 (b : Nat → Nat → Int) : fb_si (fun j => zk_cf 4 b 1 j) 5 = zk_sg 1 * zk_dt 4 (fun p q => b (zk_sk 1 q) (p + 1) - b (zk_sk 1 q) 0) := by
  simp only [zk_dt, zk_cf, fb_si, zk_sg, zk_sk, Nat.reduceAdd, Nat.reduceMod, Nat.reduceLT, Nat.reduceEqDiff, if_true, if_false, reduceIte, Nat.zero_add, Int.zero_add, Int.one_mul]
  try grind
theorem zk_T5_2 (b : Nat → Nat → Int) : fb_si (fun j => zk_cf 4 b 2 j) 5 = zk_sg 2 * zk_dt 4 (fun p q => b (zk_sk 2 q) (p + 1) - b (zk_sk 2 q) 0) := by
  simp only [zk_dt, zk_cf, fb_si, zk_sg, zk_sk, Nat.reduceAdd, Nat.reduceMod, Nat.reduceLT, Nat.reduceEqDiff, if_true, if_false, reduceIte, Nat.zero_add, Int.zero_add, Int.one_mul]
  try grind
theorem zk_T5_3 (b : Nat → Nat → Int) : fb_si (fun j => zk_cf 4 b 3 j) 5 = zk_sg 3 * zk_dt 4 (fun p q => b (zk_sk 3 q) (p + 1) - b (zk_sk 3 q) 0) := by
  simp only [zk_dt, zk_cf, fb_si, zk_sg, zk_sk, Nat.reduceAdd, Nat.reduceMod, Nat.reduceLT, Nat.reduceEqDiff, if_true, if_false, reduceIte, Nat.zero_add, Int.zero_add, Int.one_mul]
  try grind
theorem zk_T5_4 (b : Nat → Nat → Int) : fb_si (fun j => zk_cf 4 b 4 j) 5 = zk_sg 4 * zk_dt 4 (fun p q => b (zk_sk 4 q) (p + 1) - b (zk_sk 4 q) 0) := by
  simp only [zk_dt, zk_cf, fb_si, zk_sg, zk_sk, Nat.reduceAdd, Nat.reduceMod, Nat.reduceLT, Nat.reduceEqDiff, if_true, if_false, reduceIte, Nat.zero_add, Int.zero_add, Int.one_mul]
  try grind
theorem zk_E5_0 (b : Nat → Nat → Int) : zk_dt 5 b = zk_sg 4 * zk_dt 5 (fun i a => b i (if a < 0 then a else if a = 0 then 4 else a - 1)) := by
  simp only [zk_dt, zk_cf, fb_si, zk_sg, zk_sk, Nat.reduceAdd, Nat.reduceMod, Nat.reduceLT, Nat.reduceEqDiff, if_true, if_false, reduceIte, Nat.zero_add, Int.zero_add, Int.one_mul, Nat.reduceSub]
  try grind
theorem zk_E5_1 (b : Nat → Nat → Int) : zk_dt 5 b = zk_sg 3 * zk_dt 5 (fun i a => b i (if a < 1 then a else if a = 1 then 4 else a - 1)) := by
  simp only [zk_dt, zk_cf, fb_si, zk_sg, zk_sk, Nat.reduceAdd, Nat.reduceMod, Nat.reduceLT, Nat.reduceEqDiff, if_true, if_false, reduceIte, Nat.zero_add, Int.zero_add, Int.one_mul, Nat.reduceSub]
  try grind
theorem zk_E5_2 (b : Nat → Nat → Int) : zk_dt 5 b = zk_sg 2 * zk_dt 5 (fun i a => b i (if a < 2 then a else if a = 2 then 4 else a - 1)) := by
  simp only [zk_dt, zk_cf, fb_si, zk_sg, zk_sk, Nat.reduceAdd, Nat.reduceMod, Nat.reduceLT, Nat.reduceEqDiff, if_true, if_false, reduceIte, Nat.zero_add, Int.zero_add, Int.one_mul, Nat.reduceSub]
  try grind
theorem zk_E5_3 (b : Nat → Nat → Int) : zk_dt 5 b = zk_sg 1 * zk_dt 5 (fun i a => b i (if a < 3 then a else if a = 3 then 4 else a - 1)) := by
  simp only [zk_dt, zk_cf, fb_si, zk_sg, zk_sk, Nat.reduceAdd, Nat.reduceMod, Nat.reduceLT, Nat.reduceEqDiff, if_true, if_false, reduceIte, Nat.zero_add, Int.zero_add, Int.one_mul, Nat.reduceSub]
  try grind
theorem zk_E5_4 (b : Nat → Nat → Int) : zk_dt 5 b = zk_sg 0 * zk_dt 5 (fun i a => b i (if a < 4 then a else if a = 4 then 4 else a - 1)) := by
  simp only [zk_dt, zk_cf, fb_si, zk_sg, zk_sk, Nat.reduceAdd, Nat.reduceMod, Nat.reduceLT, Nat.reduceEqDiff, if_true, if_false, reduceIte, Nat.zero_add, Int.zero_add, Int.one_mul, Nat.reduceSub]
  try grind
