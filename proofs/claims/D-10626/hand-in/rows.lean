section
/-- the powers of ten -/
def du_T (a : Nat → Int64) : Prop := ∀ k, k < 19 → a k = lN (10 ^ k)
/-- a register's number -/
def du_reg (r : Int32) : Prop := ∃ j : Nat, j < 6 ∧ r = nI j
/-- what set takes -/
def du_put (k : Nat) (r c e : Int32) : Prop := du_reg r ∧ (-20 ≤ e.toInt ∧ e.toInt ≤ 20) ∧ (-((10 ^ k : Nat) : Int) < c.toInt ∧ c.toInt < ((10 ^ k : Nat) : Int))
/-- the precision, brought into 3 to 7 -/
def du_K (p : Int32) (k : Nat) : Prop := (3 ≤ k ∧ k ≤ 7) ∧ ((3 ≤ p ∧ p ≤ 7 ∧ p = nI k) ∨ (3 ≤ p ∧ ¬ p ≤ 7 ∧ k = 7) ∨ (¬ 3 ≤ p ∧ k = 3))
/-- a long of size m and sign s -/
def du_V (x : Int64) (m : Nat) (s : Int32) : Prop := (s = 0 ∧ x = lN m) ∨ (s = 1 ∧ 0 < m ∧ x = -lN m)
/-- the registers: v at r, 0 elsewhere -/
def du_P (r v : Int32) (a1 a2 : Nat → Int32) : Prop := ∀ n, n < 6 → (r = nI n → a1 n = v ∧ -20 ≤ (a2 n).toInt ∧ (a2 n).toInt ≤ 20) ∧ (¬ r = nI n → a1 n = 0 ∧ a2 n = 0)
/-- what compare answers -/
def du_ok (v c o : Int32) : Prop := (v = 0 ∧ c = o) ∨ (v = 1 ∧ o < c) ∨ (v = -1 ∧ c < o)
theorem du_pwle {a b : Nat} (h : a ≤ b) : 10 ^ a ≤ 10 ^ b := Nat.pow_le_pow_right (by decide) h
theorem du_p63 {a : Nat} (h : a < 19) : 10 ^ a < 2 ^ 63 := Nat.lt_of_le_of_lt (du_pwle (show a ≤ 18 by omega)) (by decide)
theorem du_p18 {a : Nat} (h : a < 18) : 10 ^ a < 10 ^ 18 := Nat.lt_of_le_of_lt (du_pwle (show a ≤ 17 by omega)) (by decide)
theorem du_p31 {a : Nat} (h : a ≤ 7) : 10 ^ a ≤ 10000000 := Nat.le_trans (du_pwle h) (by decide)
theorem du_p0 (a : Nat) : 0 < 10 ^ a := Nat.pow_pos (by decide)
/-- m of d digits, brought to t digits -/
theorem du_up {m d t : Nat} (h : m < 10 ^ d) (hd : d ≤ t) (ht : t < 19) : m * 10 ^ (t - d) < 2 ^ 63 := by
  have e : 10 ^ d * 10 ^ (t - d) = 10 ^ t := by rw [← Nat.pow_add]; exact congrArg (10 ^ ·) (by omega)
  have h1 : m * 10 ^ (t - d) ≤ 10 ^ d * 10 ^ (t - d) := Nat.mul_le_mul_right _ (Nat.le_of_lt h)
  exact Nat.lt_of_le_of_lt h1 (by rw [e]; exact du_p63 ht)
theorem du_sh {m d t : Nat} (h : m < 10 ^ d) (hd : d + t ≤ 18) : m * 10 ^ t < 2 ^ 63 := by
  have h1 := du_up (t := d + t) h (by omega) (by omega)
  rw [show d + t - d = t by omega] at h1
  exact h1
theorem du_d7 {n d : Nat} (hn : n < 10 ^ 7) (h : d = 1 ∨ 10 ^ (d - 1) ≤ n) : d ≤ 7 := by
  rcases h with h | h
  · omega
  · rcases Nat.lt_or_ge 7 d with z | z
    · exact absurd (Nat.le_trans (du_pwle (show 7 ≤ d - 1 by omega)) h) (Nat.not_le_of_lt hn)
    · exact z
theorem du_d1 {d : Nat} (h1 : 1 ≤ d) (h : d = 1 ∨ 10 ^ (d - 1) ≤ 1) : d = 1 := by
  rcases h with h | h
  · exact h
  · rcases Nat.lt_or_ge 1 d with z | z
    · exact absurd (Nat.le_trans (du_pwle (show 1 ≤ d - 1 by omega)) h) (by decide)
    · omega
theorem du_p10 {i : Nat} (h : 1 ≤ i) : 10 * lN (10 ^ (i - 1)) = lN (10 ^ i) := by
  have e : lN 10 * lN (10 ^ (i - 1)) = lN (10 * 10 ^ (i - 1)) := lN_mul 10 (10 ^ (i - 1))
  have e2 : 10 * 10 ^ (i - 1) = 10 ^ i := by
    rw [← Nat.pow_succ']
    exact congrArg (10 ^ ·) (by omega)
  rw [e2] at e
  exact e
/-! longs of either sign -/
theorem du_nn {m : Nat} (h : m < 2 ^ 63) : (0 : Int64) ≤ lN m := (pk_lLE (a := 0) (by decide) h).mpr (Nat.zero_le m)
theorem du_nT {m : Nat} (h : m < 2 ^ 63) : (-lN m).toInt = -(m : Int) := by
  rw [Int64.toInt_neg, pk_lT h]
  exact Int.bmod_eq_of_le (by omega) (by omega)
theorem du_nl {m : Nat} (h0 : 0 < m) (h : m < 2 ^ 63) : ¬ (0 : Int64) ≤ -lN m := by
  intro z
  have z2 := Int64.le_iff_toInt_le.mp z
  rw [du_nT h, show (0 : Int64).toInt = 0 from rfl] at z2
  omega
theorem du_ne {m : Nat} (h0 : 0 < m) (h : m < 2 ^ 63) : ¬ lN m = 0 := fun z => absurd ((pk_lEQ (b := 0) h (by decide)).mp z) (by omega)
theorem du_abs {x : Int64} {m : Nat} {s : Int32} (hv : du_V x m s) (h : m < 2 ^ 63) {A : Int64 → Prop} (H : A (lN m)) : (0 ≤ x → A x) ∧ (¬ 0 ≤ x → A (-x)) := by
  rcases hv with ⟨_, rfl⟩ | ⟨_, h0, rfl⟩
  · exact br_t (du_nn h) H
  · refine br_f (du_nl h0 h) ?_
    rw [Int64.neg_neg]
    exact H
theorem du_Vmul {x : Int64} {m : Nat} {s : Int32} (hv : du_V x m s) {b : Nat} (hb : 0 < b) : du_V (x * lN b) (m * b) s := by
  rcases hv with ⟨e, rfl⟩ | ⟨e, h0, rfl⟩
  · exact Or.inl ⟨e, lN_mul m b⟩
  · exact Or.inr ⟨e, Nat.mul_pos h0 hb, by rw [Int64.neg_mul, lN_mul]⟩
theorem du_V0 {x : Int64} {m : Nat} {s : Int32} (hv : du_V x m s) (h : m < 2 ^ 63) : x = 0 ↔ m = 0 := by
  rcases hv with ⟨_, rfl⟩ | ⟨_, h0, rfl⟩
  · exact pk_lEQ (b := 0) h (by decide)
  · constructor
    · intro z
      exact absurd (show (0 : Int64) ≤ -lN m by rw [z]; decide) (du_nl h0 h)
    · intro z
      omega
theorem du_Vz : du_V 0 0 0 := Or.inl ⟨rfl, rfl⟩
theorem du_VN (m : Nat) : du_V (lN m) m 0 := Or.inl ⟨rfl, rfl⟩
theorem du_nI64 {m : Nat} (h : m < 2 ^ 31) : (-nI m).toInt64 = -lN m := by
  apply Int64.toInt_inj.mp
  rw [Int32.toInt_toInt64, sb_negT h, du_nT (by omega)]
/-- an int's size and sign -/
theorem du_int (c : Int32) {b : Nat} (hb : b < 2 ^ 31) (h1 : -(b : Int) < c.toInt) (h2 : c.toInt < b) : ∃ m s, m < b ∧ du_V c.toInt64 m s ∧ ((c = 0 ∧ m = 0) ∨ (0 < c ∧ 0 < m ∧ s = 0) ∨ (c < 0 ∧ 0 < m ∧ s = 1)) := by
  have z0 : (0 : Int32).toInt = 0 := rfl
  rcases Int.lt_or_le c.toInt 0 with z | z
  · refine ⟨c.toInt.natAbs, 1, by omega, Or.inr ⟨rfl, by omega, ?_⟩, Or.inr (Or.inr ⟨?_, by omega, rfl⟩)⟩
    · apply Int64.toInt_inj.mp
      rw [Int32.toInt_toInt64, du_nT (by omega)]
      omega
    · rw [Int32.lt_iff_toInt_lt, z0]
      exact z
  · have e : c = nI c.toInt.natAbs := by
      apply Int32.toInt_inj.mp
      rw [nI_toInt (by omega)]
      omega
    refine ⟨c.toInt.natAbs, 0, by omega, Or.inl ⟨rfl, ?_⟩, ?_⟩
    · apply Int64.toInt_inj.mp
      rw [Int32.toInt_toInt64, pk_lT (by omega)]
      omega
    · rcases Int.lt_or_eq_of_le z with y | y
      · exact Or.inr (Or.inl ⟨by rw [Int32.lt_iff_toInt_lt, z0]; exact y, by omega, rfl⟩)
      · exact Or.inl ⟨Int32.toInt_inj.mp (by rw [z0]; exact y.symm), by omega⟩
/-! registers and what set takes, by the order of ints -/
theorem du_regI (r : Int32) : du_reg r ↔ 0 ≤ r.toInt ∧ r.toInt ≤ 5 := by
  constructor
  · rintro ⟨j, hj, rfl⟩
    rw [nI_toInt (by omega)]
    omega
  · intro h
    refine ⟨r.toInt.natAbs, by omega, ?_⟩
    apply Int32.toInt_inj.mp
    rw [nI_toInt (by omega)]
    omega
theorem du_lt0 (r : Int32) : r < 0 ↔ r.toInt < 0 := Int32.lt_iff_toInt_lt
theorem du_5lt (r : Int32) : 5 < r ↔ 5 < r.toInt := Int32.lt_iff_toInt_lt
theorem du_m20 (r : Int32) : r < (-20) ↔ r.toInt < -20 := Int32.lt_iff_toInt_lt
theorem du_20lt (r : Int32) : 20 < r ↔ 20 < r.toInt := Int32.lt_iff_toInt_lt
theorem du_le20 (r : Int32) : r ≤ 20 ↔ r.toInt ≤ 20 := Int32.le_iff_toInt_le
theorem du_szl {k : Nat} (hk : k ≤ 7) (c : Int32) : c ≤ -nI (10 ^ k) ↔ c.toInt ≤ -((10 ^ k : Nat) : Int) := by
  have h := du_p31 hk
  rw [Int32.le_iff_toInt_le, sb_negT (by omega)]
theorem du_szr {k : Nat} (hk : k ≤ 7) (c : Int32) : nI (10 ^ k) ≤ c ↔ ((10 ^ k : Nat) : Int) ≤ c.toInt := by
  have h := du_p31 hk
  rw [Int32.le_iff_toInt_le, nI_toInt (by omega)]
theorem du_lsz {k : Nat} (hk : k ≤ 7) {x : Int64} : x < lN (10 ^ k) ↔ x.toInt < ((10 ^ k : Nat) : Int) := by
  have h := du_p31 hk
  rw [Int64.lt_iff_toInt_lt, pk_lT (by omega)]
theorem du_n64 (c : Int32) : (-c.toInt64).toInt = -c.toInt := by
  have h1 := c.toInt_lt
  have h2 := c.le_toInt
  rw [Int64.toInt_neg, Int32.toInt_toInt64]
  exact Int.bmod_eq_of_le (by omega) (by omega)
theorem du_byte {e : Int32} (h : -20 ≤ e.toInt ∧ e.toInt ≤ 20) : -20 ≤ e.toInt8.toInt32.toInt ∧ e.toInt8.toInt32.toInt ≤ 20 := by
  rw [Int8.toInt_toInt32, Int32.toInt_toInt8, Int.bmod_eq_of_le (by omega) (by omega)]
  exact h
end
section
theorem du_ir {post : Int32 → Prop} {u : St2} {r : Int32} (H1 : du_reg r → post 1) (H0 : ¬ du_reg r → post 0) : wpX_isRegister post u r := by
  obtain ⟨P, R, F, N, M, S, B, a1, a2, a3⟩ := u
  refine br_c (fun z => H0 (fun t => ?_)) (fun z => br_c (fun z2 => H0 (fun t => ?_)) (fun z2 => H1 ?_))
  · rw [du_regI] at t
    rw [du_lt0] at z
    omega
  · rw [du_regI] at t
    rw [du_5lt] at z2
    omega
  · rw [du_regI]
    rw [du_lt0] at z
    rw [du_5lt] at z2
    omega
/-- of a register: r_1 = 1 -/
theorem du_irY {post : Int32 → Prop} {u : St2} {j : Nat} (hj : j < 6) (H : post 1) : wpX_isRegister post u (nI j) := du_ir (fun _ => H) (fun z => absurd ⟨j, hj, rfl⟩ z)
theorem du_irN {post : Int32 → Prop} {u : St2} {r : Int32} (hr : ¬ du_reg r) (H : post 0) : wpX_isRegister post u r := du_ir (fun z => absurd z hr) (fun _ => H)
theorem du_10 : ¬ (1 : Int32) = 0 := by decide
theorem du_init50 {post : St2 → Prop} {z P R F N S B : Int32} {M : Int64} {mc ms kc ks : Nat} {a b : Nat → Int32} {c : Nat → Int64} (H : ∀ a3, du_T a3 → post (z, R, F, N, M, S, B, a, b, a3)) : wX_init_50 post mc ms z kc ks P R F N M S B a b c := by
  refine nm_e ?_
  refine pk_loop (fun f i s => wX_init_62 post mc ms kc ks z R F N M S B f (nI i) a b s) (fun i s => 1 ≤ i ∧ ∀ j, j < i → s j = lN (10 ^ j)) 19 1 _ (by omega) ⟨Nat.le_refl 1, fun j hj => ?_⟩ ?_ ?_
  · have e : j = 0 := by omega
    rw [e, pk_uLs]
    rfl
  · intro f s h
    exact pk_le 19 19 (fun _ => H s h.2) (fun z => absurd z (by omega))
  · intro f i s hi h hw
    obtain ⟨h1, h2⟩ := h
    have e : nI i - 1 = nI (i - 1) := pk_sub (b := 1) h1
    refine pk_le 19 i (fun z => absurd z (by omega)) (fun _ => ⟨pk_in (i - 1) 19 (by omega) e, pk_in i 19 hi, nm_r (e' := vp_updL s i (lN (10 ^ i))) ?_ (nm_r (nI_1 i) (hw _ ⟨by omega, fun j hj => ?_⟩))⟩)
    · rw [e, nI_clamp (show i - 1 < 2 ^ 31 by omega), nI_clamp (show i < 2 ^ 31 by omega), h2 (i - 1) (by omega), du_p10 h1]
    · by_cases g : j = i
      · rw [g, pk_uLs]
      · rw [pk_uLn g]
        exact h2 j (by omega)
theorem du_init {post : St2 → Prop} {p : Int32} {k : Nat} (hK : du_K p k) (H : ∀ a3, du_T a3 → post (nI k, 0, 0, 0, 0, 0, 0, (fun _ => 0), (fun _ => 0), a3)) : wpX_init post 3 31 (0, 0, 0, 0, 0, 0, 0) p := by
  obtain ⟨_, h⟩ := hK
  refine ⟨by decide, by decide, by decide, by decide, by decide, by decide, ?_⟩
  rcases h with ⟨h1, h2, e⟩ | ⟨h1, h2, e⟩ | ⟨h1, e⟩
  · refine br_t h1 (br_t h2 ?_)
    rw [e]
    exact du_init50 H
  · refine br_t h1 (br_f h2 ?_)
    rw [e] at H
    exact du_init50 H
  · refine br_f h1 ?_
    rw [e] at H
    exact du_init50 H
theorem du_set34 {post : Int32 → St2 → Prop} {k j : Nat} {c e R F N S B : Int32} {M : Int64} {a1 a2 : Nat → Int32} {a3 : Nat → Int64} (hT : du_T a3) (hk : 3 ≤ k ∧ k ≤ 7) (hj : j < 6) {z : Int64}
    (H1 : z.toInt < ((10 ^ k : Nat) : Int) → post 1 (nI k, R, F, N, M, S, B, upd a1 j c, upd a2 j e.toInt8.toInt32, a3)) (H0 : ¬ z.toInt < ((10 ^ k : Nat) : Int) → post 0 (nI k, R, F, N, M, S, B, a1, a2, a3)) :
    wX_set_34 post (nI j) c e z (nI k) R F N M S B a1 a2 a3 := by
  unfold wX_set_34
  rw [nI_clamp (show k < 2 ^ 31 by omega), nI_clamp (show j < 2 ^ 31 by omega), hT k (by omega)]
  exact ⟨pk_in k 19 (by omega), ek_if (du_lsz hk.2) (fun h => ⟨pk_in j 6 hj, nm_e ⟨pk_in j 6 hj, nm_e (H1 h)⟩⟩) H0⟩
theorem du_set {post : Int32 → St2 → Prop} {k : Nat} {r c e x8 x10 R F N S B : Int32} {M : Int64} {a3 : Nat → Int64} (hT : du_T a3) (hk : 3 ≤ k ∧ k ≤ 7)
    (h8 : (du_put k r c e ∧ x8 = 1 ∧ x10 = c) ∨ (¬ du_put k r c e ∧ x8 = 0 ∧ x10 = 0))
    (H : ∀ a1 a2, du_P r x10 a1 a2 → post x8 (nI k, R, F, N, M, S, B, a1, a2, a3)) :
    wpX_set post (nI k, R, F, N, M, S, B, (fun _ => 0), (fun _ => 0), a3) r c e := by
  have G0 : ¬ du_put k r c e → post 0 (nI k, R, F, N, M, S, B, (fun _ => 0), (fun _ => 0), a3) := by
    intro h
    rcases h8 with ⟨g, _⟩ | ⟨_, e8, e10⟩
    · exact absurd g h
    · have H' := H
      rw [e8] at H'
      exact H' _ _ (fun n hn => ⟨fun _ => ⟨e10.symm, by decide, by decide⟩, fun _ => ⟨rfl, rfl⟩⟩)
  have G1 : du_put k r c e → ∀ j, j < 6 → r = nI j → post 1 (nI k, R, F, N, M, S, B, upd (fun _ => 0) j c, upd (fun _ => 0) j e.toInt8.toInt32, a3) := by
    intro h j hj ej
    rcases h8 with ⟨_, e8, e10⟩ | ⟨g, _⟩
    · have H' := H
      rw [e8] at H'
      refine H' _ _ (fun n hn => ⟨fun en => ?_, fun en => ?_⟩)
      · have eq : n = j := (nI_eq (by omega) (by omega)).mp (en.symm.trans ej)
        rw [eq, pk_us, pk_us]
        exact ⟨e10.symm, du_byte h.2.1⟩
      · have ne : n ≠ j := fun t => en (by rw [t]; exact ej)
        rw [pk_un ne, pk_un ne]
        exact ⟨rfl, rfl⟩
    · exact absurd h g
  unfold wpX_set
  dsimp only
  refine du_ir (fun hr => br_f du_10 (br_c (fun z => G0 (fun t => ?_)) (fun z => br_c (fun z2 => ?_) (fun z2 => G0 (fun t => ?_))))) (fun hr => br_t rfl (G0 (fun t => hr t.1)))
  · have t2 := t.2.1.1
    rw [du_m20] at z
    omega
  · obtain ⟨j, hj, ej⟩ := hr
    have he : -20 ≤ e.toInt ∧ e.toInt ≤ 20 := by
      rw [du_m20] at z
      rw [du_le20] at z2
      omega
    have hp := du_p31 hk.2
    refine br_c (fun y => ?_) (fun y => ?_)
    · have y2 : 0 ≤ c.toInt := Int32.le_iff_toInt_le.mp y
      have G := G1
      rw [ej] at G ⊢
      refine du_set34 hT hk hj (fun g => ?_) (fun g => G0 (fun t => ?_))
      · rw [Int32.toInt_toInt64] at g
        refine G ⟨⟨j, hj, rfl⟩, he, ?_, g⟩ j hj rfl
        have := du_p0 k
        omega
      · rw [Int32.toInt_toInt64] at g
        exact g t.2.2.2
    · have y2 : ¬ 0 ≤ c.toInt := fun t => y (Int32.le_iff_toInt_le.mpr t)
      have G := G1
      rw [ej] at G ⊢
      refine du_set34 hT hk hj (fun g => ?_) (fun g => G0 (fun t => ?_))
      · rw [du_n64] at g
        refine G ⟨⟨j, hj, rfl⟩, he, by omega, ?_⟩ j hj rfl
        have := du_p0 k
        omega
      · rw [du_n64] at g
        have := t.2.2.1
        omega
  · have t2 := t.2.1.2
    rw [du_le20] at z2
    omega
theorem du_coef {post : Int32 → Prop} {P R F N S B q : Int32} {M : Int64} {a1 a2 : Nat → Int32} {a3 : Nat → Int64} (H1 : ∀ j, j < 6 → q = nI j → post (a1 j)) (H0 : ¬ du_reg q → post 0) : wpX_coefficient post (P, R, F, N, M, S, B, a1, a2, a3) q := by
  unfold wpX_coefficient
  dsimp only
  refine du_ir (fun hq => br_f du_10 ?_) (fun hq => br_t rfl (H0 hq))
  obtain ⟨j, hj, ej⟩ := hq
  refine ⟨pk_in j 6 hj ej, ?_⟩
  rw [pk_cl j ej (by omega)]
  exact H1 j hj ej
theorem du_dig {post : Int32 → Prop} {P R F N S B : Int32} {M : Int64} {a1 a2 : Nat → Int32} {a3 : Nat → Int64} (hT : du_T a3) {n : Nat} (hn : n < 10 ^ 18)
    (H : ∀ d, 1 ≤ d → d ≤ 18 → n < 10 ^ d → (d = 1 ∨ 10 ^ (d - 1) ≤ n) → post (nI d)) : wpX_digitsOf post (P, R, F, N, M, S, B, a1, a2, a3) (lN n) := by
  obtain ⟨d, ⟨h1, h2⟩, h3⟩ := pk_least (fun d => 1 ≤ d ∧ n < 10 ^ d) ⟨18, by decide, hn⟩
  have hd : d ≤ 18 := by
    rcases Nat.lt_or_ge 18 d with z | z
    · exact absurd ⟨by decide, hn⟩ (h3 18 z)
    · exact z
  have hm : ∀ i, 1 ≤ i → i < d → 10 ^ i ≤ n := fun i hi z => Nat.le_of_not_lt (fun t => h3 i z ⟨hi, t⟩)
  have hn63 : n < 2 ^ 63 := Nat.lt_trans hn (by decide)
  have G : post (nI d) := by
    refine H d h1 hd h2 ?_
    rcases Nat.lt_or_ge 1 d with z | z
    · exact Or.inr (hm (d - 1) (by omega) (by omega))
    · exact Or.inl (Nat.le_antisymm z h1)
  exact pk_loop (σ := Unit) (fun f i _ => wX_digitsOf_2 post (lN n) P R F N M S B a1 a2 a3 f (nI i)) (fun i _ => 1 ≤ i) d 1 () h1 (Nat.le_refl 1)
    (fun f _ _ => pk_le 19 d (fun z => absurd z (by omega)) (fun _ => ⟨pk_in d 19 (by omega), br_t (by rw [nI_clamp (by omega), hT d (by omega)]; exact (pk_lLT hn63 (du_p63 (by omega))).mpr h2) G⟩))
    (fun f i _ hi h0 hw => pk_le 19 i (fun z => absurd z (by omega)) (fun _ => ⟨pk_in i 19 (by omega), br_f (by rw [nI_clamp (by omega), hT i (by omega)]; exact fun t => absurd ((pk_lLT hn63 (du_p63 (by omega))).mp t) (Nat.not_lt_of_le (hm i h0 hi))) (nm_r (nI_1 i) (hw () (Nat.le_add_left 1 i)))⟩))
theorem du_nb0 : narrow .boolean (.int 0) = .int 0 := by rfl
theorem du_nb1 : narrow .boolean (.int 1) = .int 1 := by rfl
theorem du_fb0 : fits .boolean (.int 0) = true := by rfl
theorem du_fb1 : fits .boolean (.int 1) = true := by rfl
theorem du_take {post : St2 → Prop} {P R F N S B E s : Int32} {M v : Int64} {m : Nat} {a1 a2 : Nat → Int32} {a3 : Nat → Int64} (hv : du_V v m s) (hm : m < 2 ^ 63) (H : post (P, R, F, s, lN m, E, 0, a1, a2, a3)) : wpX_take post (P, R, F, N, M, S, B, a1, a2, a3) v E := by
  rcases hv with ⟨e, e2⟩ | ⟨e, h0, e2⟩
  · rw [e] at H
    rw [e2]
    exact br_t (du_nn hm) ⟨du_nb0, du_fb0, br_t rfl H⟩
  · rw [e] at H
    rw [e2]
    refine br_f (du_nl h0 hm) ⟨du_nb1, du_fb1, br_f du_10 ?_⟩
    rw [Int64.neg_neg]
    exact H
end
section
theorem du_far {post : St2 → Prop} {P R F N S B E s : Int32} {M x : Int64} {m pl : Nat} {a1 a2 : Nat → Int32} {a3 : Nat → Int64} (hT : du_T a3) (hp : pl ≤ 18) (hv : du_V x m s) (hm : m < 2 ^ 63)
    (H : post (P, R, F, s, lN m, E, 0, a1, a2, a3)) : wpX_sumFar post (P, R, F, N, M, S, B, a1, a2, a3) x 0 E (nI pl) := by
  have eT : a3 (nI pl).toNatClampNeg = lN (10 ^ pl) := by rw [nI_clamp (by omega), hT pl (by omega)]
  have ne : ¬ a3 (nI pl).toNatClampNeg = 0 := by
    rw [eT]
    exact du_ne (du_p0 pl) (du_p63 (by omega))
  have e0 : (0 : Int64) / a3 (nI pl).toNatClampNeg = 0 := by
    have h := pk_lDiv (a := 0) (b := 10 ^ pl) (by decide) (du_p0 pl) (du_p63 (by omega))
    rw [Nat.zero_div] at h
    rw [eT]
    exact h
  have er : (0 : Int64) - 0 / a3 (nI pl).toNatClampNeg * a3 (nI pl).toNatClampNeg = 0 := by
    have h := pk_lRem (a := 0) (b := 10 ^ pl) (by decide) (du_p0 pl) (du_p63 (by omega))
    rw [Nat.zero_mod] at h
    rw [eT]
    exact h
  have T : ∀ z0 : Int32, wX_sumFar_94 post x E 0 0 z0 P R F N M S B a1 a2 a3 := by
    intro z0
    refine du_take (m := m) (s := s) ?_ hm (br_t rfl H)
    rw [Int64.add_zero]
    exact hv
  have T86 : ∀ z0 z1 : Int32, wX_sumFar_86 post x E 0 0 z0 z1 P R F N M S B a1 a2 a3 := fun z0 z1 => br_c (fun _ => T 0) (fun _ => T 1)
  have T75 : ∀ z0 : Int32, wX_sumFar_75 post x 0 E 0 0 z0 P R F N M S B a1 a2 a3 := fun z0 => br_c (fun _ => T86 0 z0) (fun _ => T86 1 z0)
  have T62 : wX_sumFar_62 post x 0 E 0 0 P R F N M S B a1 a2 a3 := br_c (fun _ => T75 0) (fun _ => T75 1)
  refine pk_le pl 18 (fun _ => ⟨pk_in pl 19 (by omega), ne, ?_⟩) (fun z => absurd z (by omega))
  rw [e0]
  exact pk_le pl 18 (fun _ => ⟨pk_in pl 19 (by omega), ne, br_t er T62⟩) (fun z => absurd z (by omega))
theorem du_irr {e : Int32} : ¬ e < e := Int32.lt_irrefl
/-- x and -x -/
theorem du_sumS {post : St2 → Prop} {P R F N S B e s : Int32} {M x : Int64} {m : Nat} {a1 a2 : Nat → Int32} {a3 : Nat → Int64} (hT : du_T a3) (hv : du_V x m s) (hm : m < 10 ^ 7)
    (H : post (P, R, F, 0, 0, e, 0, a1, a2, a3)) : wpX_sum post (P, R, F, N, M, S, B, a1, a2, a3) x e (-x) e := by
  have h63 : m < 2 ^ 63 := Nat.lt_trans hm (by decide)
  refine br_f du_irr (br_f du_irr (br_f du_irr (br_f du_irr (nm_r (Int32.sub_self e) ?_))))
  refine du_abs hv h63 (A := fun z => wX_sum_79 post x (-x) e e 0 z P R F N M S B a1 a2 a3) ?_
  refine du_dig hT (Nat.lt_trans hm (by decide)) (fun d h1 h2 h3 h4 => br_c (fun z => ?_) (fun z => br_f ?_ ⟨pk_in 0 19 (by decide), ?_⟩))
  · refine du_take (m := 0) (s := 0) ?_ (by decide) H
    rw [z]
    exact Or.inl ⟨rfl, by decide⟩
  · have h7 := du_d7 hm h4
    rw [Int32.add_zero]
    exact nI_nlt (a := 18) (b := d) (by omega) (by decide)
  · refine du_take (m := 0) (s := 0) ?_ (by decide) H
    refine Or.inl ⟨rfl, ?_⟩
    rw [show (0 : Int32).toNatClampNeg = 0 from by decide, hT 0 (by decide), show lN (10 ^ 0) = 1 from by decide, Int64.mul_one, Int64.add_right_neg]
    decide
/-- x with the exponent ex, and 0 with the exponent 0 -/
theorem du_sumZ {post : St2 → Prop} {P R F N S B ex s : Int32} {M x : Int64} {m : Nat} {a1 a2 : Nat → Int32} {a3 : Nat → Int64} (hT : du_T a3) (hv : du_V x m s) (hm : m < 10 ^ 7) (he : ex.toInt ≤ 20)
    (H : ∀ (N' : Int32) (m' : Nat) (S' : Int32), m' < 2 ^ 63 → (m = 0 → m' = 0) → (0 < m → 0 < m' ∧ N' = s) → post (P, R, F, N', lN m', S', 0, a1, a2, a3)) : wpX_sum post (P, R, F, N, M, S, B, a1, a2, a3) x ex 0 0 := by
  have h63 : m < 2 ^ 63 := Nat.lt_trans hm (by decide)
  by_cases hn : ex < 0
  · refine br_t hn (br_t hn (br_t hn (br_t hn (nm_e (br_t (by decide) ?_)))))
    refine du_dig (n := 0) hT (by decide) (fun d h1 h2 h3 h4 => br_t rfl ?_)
    exact du_take hv h63 (H s m ex h63 id (fun h => ⟨h, rfl⟩))
  · obtain ⟨t, ht, et⟩ := nI_of2 (x := ex) (M := 20) (n := 20) (by decide) hn (Int32.le_iff_toInt_le.mpr he)
    subst et
    refine br_f hn (br_f hn (br_f hn (br_f hn (nm_r (Int32.sub_zero (nI t)) ?_))))
    refine du_abs hv h63 (A := fun z => wX_sum_79 post x 0 (nI t) 0 (nI t) z P R F N M S B a1 a2 a3) ?_
    refine du_dig hT (Nat.lt_trans hm (by decide)) (fun d h1 h2 h3 h4 => br_c (fun z => ?_) (fun z => ?_))
    · have m0 := (du_V0 hv h63).mp z
      exact du_take du_Vz (by decide) (H 0 0 0 (by decide) (fun _ => rfl) (fun h => absurd m0 (by omega)))
    · have m0 : 0 < m := Nat.pos_of_ne_zero (fun t => z ((du_V0 hv h63).mpr t))
      have h7 := du_d7 hm h4
      rw [nI_add]
      refine pk_lt 18 (d + t) (fun g => ?_) (fun g => ⟨pk_in t 19 (by omega), ?_⟩)
      · have e17 : 17 - nI d = nI (17 - d) := pk_sub (a := 17) (by omega)
        refine nm_r e17 ⟨pk_in (17 - d) 19 (by omega), ?_⟩
        rw [nI_clamp (show 17 - d < 2 ^ 31 by omega), hT (17 - d) (by omega), pk_sub (show 17 - d ≤ t by omega)]
        have hb : m * 10 ^ (17 - d) < 2 ^ 63 := du_up h3 (by omega) (by omega)
        exact du_far hT (by omega) (du_Vmul hv (du_p0 _)) hb (H s _ _ hb (fun h => absurd m0 (by omega)) (fun _ => ⟨Nat.mul_pos m0 (du_p0 _), rfl⟩))
      · rw [nI_clamp (show t < 2 ^ 31 by omega), hT t (by omega), Int64.add_zero]
        have hb : m * 10 ^ t < 2 ^ 63 := du_sh h3 (by omega)
        exact du_take (du_Vmul hv (du_p0 _)) hb (H s _ _ hb (fun h => absurd m0 (by omega)) (fun _ => ⟨Nat.mul_pos m0 (du_p0 _), rfl⟩))
/-- compare of two registers -/
theorem du_cmp {post : Int32 → St2 → Prop} {P R F N S B v : Int32} {M : Int64} {j i : Nat} {a1 a2 : Nat → Int32} {a3 : Nat → Int64} (hT : du_T a3) (hj : j < 6) (hi : i < 6) (hP : du_P (nI j) v a1 a2)
    (hv1 : -((10 ^ 7 : Nat) : Int) < v.toInt) (hv2 : v.toInt < ((10 ^ 7 : Nat) : Int)) (o : Int32) (ho : (i = j → o = v) ∧ (¬ i = j → o = 0))
    (H : ∀ (w : Int32) (N' : Int32) (M' : Int64) (S' B' : Int32), du_ok w v o → post w (P, R, F, N', M', S', B', a1, a2, a3)) : wpX_compare post (P, R, F, N, M, S, B, a1, a2, a3) (nI j) (nI i) := by
  obtain ⟨pa, pe1, pe2⟩ := (hP j hj).1 rfl
  obtain ⟨m, s, hm, hV, hc⟩ := du_int v (b := 10 ^ 7) (by decide) hv1 hv2
  unfold wpX_compare
  dsimp only
  refine du_irY hj (br_f du_10 (du_irY hi (br_f du_10 ⟨pk_in j 6 hj, pk_in j 6 hj, pk_in i 6 hi, pk_in i 6 hi, ?_⟩)))
  rw [nI_clamp (show j < 2 ^ 31 by omega), nI_clamp (show i < 2 ^ 31 by omega), pa]
  by_cases g : i = j
  · subst g
    rw [pa]
    exact du_sumS hT hV hm (br_t rfl (H 0 _ _ _ _ (Or.inl ⟨rfl, (ho.1 rfl).symm⟩)))
  · have nj : ¬ nI j = nI i := fun t => g ((nI_eq (by omega) (by omega)).mp t).symm
    obtain ⟨qa, qe⟩ := (hP i hi).2 nj
    rw [qa, qe, show -(0 : Int32).toInt64 = 0 from by decide]
    refine du_sumZ hT hV hm pe2 (fun N' m' S' h63 hz hp => ?_)
    have eo := ho.2 g
    rcases hc with ⟨e0, em⟩ | ⟨e0, em, es⟩ | ⟨e0, em, es⟩
    · rw [hz em]
      exact br_t rfl (H 0 _ _ _ _ (Or.inl ⟨rfl, e0.trans eo.symm⟩))
    · obtain ⟨p1, p2⟩ := hp em
      exact br_f (du_ne p1 h63) (br_t (p2.trans es) (H 1 _ _ _ _ (Or.inr (Or.inl ⟨rfl, by rw [eo]; exact e0⟩))))
    · obtain ⟨p1, p2⟩ := hp em
      exact br_f (du_ne p1 h63) (br_f (by rw [p2, es]; exact du_10) (H (-1) _ _ _ _ (Or.inr (Or.inr ⟨rfl, by rw [eo]; exact e0⟩))))
/-- compare where one isn't a register -/
theorem du_cmpN {post : Int32 → St2 → Prop} {P R F N S B r q : Int32} {M : Int64} {a1 a2 : Nat → Int32} {a3 : Nat → Int64} (h : ¬ (du_reg r ∧ du_reg q))
    (H : post (-2) (P, R, F, N, M, S, B, a1, a2, a3)) : wpX_compare post (P, R, F, N, M, S, B, a1, a2, a3) r q := by
  unfold wpX_compare
  dsimp only
  exact du_ir (fun hr => br_f du_10 (du_irN (fun hq => h ⟨hr, hq⟩) (br_t rfl H))) (fun _ => br_t rfl H)
end
section
/-- x by x -/
theorem du_divide {post : St2 → Prop} {P R F N S B s : Int32} {M x : Int64} {m : Nat} {a1 a2 : Nat → Int32} {a3 : Nat → Int64} (hT : du_T a3) (hv : du_V x m s) (h0 : 0 < m) (hm : m < 10 ^ 7)
    (H : ∀ u, u ≤ 17 → post (P, R, F, 0, lN (10 ^ u), 0 - nI u, 0, a1, a2, a3)) : wpX_divide post (P, R, F, N, M, S, B, a1, a2, a3) x x 0 := by
  have h63 : m < 2 ^ 63 := Nat.lt_trans hm (by decide)
  refine du_abs hv h63 (A := fun z => wX_divide_12 post x x 0 z P R F N M S B a1 a2 a3) ?_
  refine du_abs hv h63 (A := fun z => wX_divide_26 post x x 0 (lN m) z P R F N M S B a1 a2 a3) ?_
  refine du_dig hT (Nat.lt_trans hm (by decide)) (fun d h1 h2 h3 h4 => ?_)
  have e18 : 18 - nI d = nI (18 - d) := pk_sub (a := 18) (by omega)
  have hb : m * 10 ^ (18 - d) < 2 ^ 63 := du_up h3 (by omega) (by omega)
  have eD : lN (m * 10 ^ (18 - d)) / lN m = lN (10 ^ (18 - d)) := by
    rw [pk_lDiv hb h0 h63, Nat.mul_div_cancel_left _ h0]
  have eR : lN (m * 10 ^ (18 - d)) - lN (m * 10 ^ (18 - d)) / lN m * lN m = 0 := by
    rw [pk_lRem hb h0 h63, Nat.mul_mod_right]
    rfl
  refine nm_r e18 ⟨pk_in (18 - d) 19 (by omega), nm_r (e' := lN (m * 10 ^ (18 - d))) ?_ ⟨du_ne h0 h63, ?_⟩⟩
  · rw [nI_clamp (show 18 - d < 2 ^ 31 by omega), hT (18 - d) (by omega), lN_mul]
  · refine du_take (m := 10 ^ (18 - d)) (s := 0) (Or.inl ⟨rfl, eD⟩) (du_p63 (by omega)) ⟨du_ne h0 h63, br_t eR ⟨du_nb0, du_fb0, ?_⟩⟩
    have G := H (18 - d) (by omega)
    exact br_c (fun z => br_t z (br_t rfl G)) (fun z => br_f z (br_t rfl G))
theorem du_sc {v : Nat} (h : v ≤ 17) : (0 - nI v).toInt = -(v : Int) := by
  have e : (0 - nI v).toInt = ((0 : Nat) : Int) - v := pk_sub_toInt (a := 0) (b := v) (by decide) (by omega)
  omega
theorem du_sc1 (v : Nat) : 0 - nI (v + 1) + 1 = 0 - nI v := by
  rw [← nI_1]
  grind
theorem du_ap9 {post : St2 → Prop} {P R F N B : Int32} {a1 a2 : Nat → Int32} {a3 : Nat → Int64} (H : post (P, R, F, N, lN 1, 0, B, a1, a2, a3)) :
    ∀ v, v ≤ 17 → ∀ x2 : Int32, wX_approach_9 post 0 P R F N B a1 a2 a3 (v + 1) x2 (lN (10 ^ v)) (0 - nI v) := by
  intro v
  induction v with
  | zero =>
    intro _ x2
    have e0 : (0 : Int32) - nI 0 = 0 := by decide
    rw [e0]
    exact ⟨by decide, br_f (by decide) ⟨1, br_t (by decide) H⟩⟩
  | succ v ih =>
    intro hv x2
    have hb : 10 ^ (v + 1) < 2 ^ 63 := du_p63 (by omega)
    have eR : lN (10 ^ (v + 1)) - lN (10 ^ (v + 1)) / 10 * 10 = 0 := by
      have h := pk_lRem (a := 10 ^ (v + 1)) (b := 10) hb (by decide) (by decide)
      rw [Nat.pow_succ, Nat.mul_mod_left, ← Nat.pow_succ] at h
      exact h
    have eD : lN (10 ^ (v + 1)) / 10 = lN (10 ^ v) := by
      have h := pk_lDiv (a := 10 ^ (v + 1)) (b := 10) hb (by decide) (by decide)
      rw [Nat.pow_succ, Nat.mul_div_cancel _ (by decide), ← Nat.pow_succ] at h
      exact h
    have hs : (0 : Int32) - nI (v + 1) < 0 := by
      rw [du_lt0, du_sc hv]
      omega
    exact ⟨by decide, br_t eR (br_t hs ⟨by decide, nm_r eD (nm_r (du_sc1 v) (nm_e (ih (by omega) _)))⟩)⟩
theorem du_finish {post : Int32 → St2 → Prop} {R F : Int32} {k u i : Nat} {a1 a2 : Nat → Int32} {a3 : Nat → Int64} (hT : du_T a3) (hk : 3 ≤ k ∧ k ≤ 7) (hu : u ≤ 17) (hi : i < 6)
    (H : ∀ (F' N' : Int32) (M' : Int64) (S' B' : Int32) (a2' : Nat → Int32), post 0 (nI k, R, F', N', M', S', B', upd a1 i 1, a2', a3)) :
    wpX_finish post (nI k, R, F, 0, lN (10 ^ u), 0 - nI u, 0, a1, a2, a3) (nI i) 0 := by
  refine br_f (du_ne (du_p0 u) (du_p63 (by omega))) (br_t rfl ?_)
  unfold wpX_approach
  dsimp only
  refine du_dig hT (du_p18 (by omega)) (fun d _ _ _ _ => ⟨u + 1, du_ap9 ?_ u hu (nI d)⟩)
  refine du_dig (n := 1) hT (by decide) (fun d h1 h2 h3 h4 => ?_)
  have ed := du_d1 h1 h4
  refine pk_le d k (fun _ => ?_) (fun z => absurd z (by omega))
  refine br_t (show (0 : Int32) ≤ 0 by decide) (br_f (show ¬ (0 : Int32) < -20 by decide) (br_t (show (0 : Int32) ≤ 20 by decide) (br_t rfl ⟨pk_in i 6 hi, nm_r (e' := upd a1 i 1) ?_ ⟨pk_in i 6 hi, nm_e (nm_e (H _ _ _ _ _ _))⟩⟩)))
  rw [nI_clamp (show i < 2 ^ 31 by omega)]
  rfl
/-- apply(DIV, i, j, j), the register j not 0 -/
theorem du_div {post : Int32 → St2 → Prop} {R F N S B s : Int32} {M : Int64} {k i j m : Nat} {a1 a2 : Nat → Int32} {a3 : Nat → Int64} (hT : du_T a3) (hk : 3 ≤ k ∧ k ≤ 7) (hj : j < 6) (hi : i < 6)
    (hv : du_V (a1 j).toInt64 m s) (h0 : 0 < m) (hm : m < 10 ^ 7) (hne : ¬ a1 j = 0)
    (H : ∀ (F' N' : Int32) (M' : Int64) (S' B' : Int32) (a2' : Nat → Int32), post 0 (nI k, R, F', N', M', S', B', upd a1 i 1, a2', a3)) :
    wpX_apply post (nI k, R, F, N, M, S, B, a1, a2, a3) 3 (nI i) (nI j) (nI j) := by
  have ej : (nI j).toNatClampNeg = j := nI_clamp (by omega)
  refine br_f (by decide) (br_f (by decide) (du_irY hi (br_f du_10 (du_irY hj (br_f du_10 (du_irY hj (br_f du_10 (br_t rfl ⟨pk_in j 6 hj, br_f (by rw [ej]; exact hne) ?_⟩))))))))
  refine ⟨pk_in j 6 hj, nm_r (e' := (a1 j).toInt64) (by rw [ej]) ⟨pk_in j 6 hj, nm_r (e' := (a1 j).toInt64) (by rw [ej]) (br_f (by decide) (br_t rfl ⟨pk_in j 6 hj, pk_in j 6 hj, nm_r (Int32.sub_self _) ?_⟩))⟩⟩
  exact du_divide hT hv h0 hm (fun u hu => du_finish hT hk hu hi H)
/-- apply(DIV, i, j, j), the register j 0 -/
theorem du_div0 {post : Int32 → St2 → Prop} {P R F N S B : Int32} {M : Int64} {i j : Nat} {a1 a2 : Nat → Int32} {a3 : Nat → Int64} (hj : j < 6) (hi : i < 6) (he : a1 j = 0)
    (H : ∀ F' : Int32, post 4 (P, R, F', N, M, S, B, a1, a2, a3)) : wpX_apply post (P, R, F, N, M, S, B, a1, a2, a3) 3 (nI i) (nI j) (nI j) := by
  have ej : (nI j).toNatClampNeg = j := nI_clamp (by omega)
  exact br_f (by decide) (br_f (by decide) (du_irY hi (br_f du_10 (du_irY hj (br_f du_10 (du_irY hj (br_f du_10 (br_t rfl ⟨pk_in j 6 hj, br_t (by rw [ej]; exact he) (nm_e (H _))⟩))))))))
/-- apply(DIV, q, r, r), one of them no register -/
theorem du_divN {post : Int32 → St2 → Prop} {P R F N S B r q : Int32} {M : Int64} {a1 a2 : Nat → Int32} {a3 : Nat → Int64} (h : ¬ (du_reg r ∧ du_reg q))
    (H : post (-1) (P, R, F, N, M, S, B, a1, a2, a3)) : wpX_apply post (P, R, F, N, M, S, B, a1, a2, a3) 3 q r r :=
  br_f (by decide) (br_f (by decide) (du_ir (fun hq => br_f du_10 (du_irN (fun hr => h ⟨hr, hq⟩) (br_t rfl H))) (fun _ => br_t rfl H)))
end
section
/-- what the law's 'both' is -/
def du_B (r q x9 : Int32) : Prop := (du_reg r ∧ du_reg q ∧ x9 = 1) ∨ (¬ (du_reg r ∧ du_reg q) ∧ x9 = 0)
/-- mode, and on to apply -/
theorem du_247 {post : Int32 → St0 → Prop} {mc ms kc ks : Nat} {r q m x9 x10 z P R F N S B : Int32} {M : Int64} {a1 a2 : Nat → Int32} {a3 : Nat → Int64}
    (G : ∀ v R' : Int32, wL_lawOf_276 post mc ms r q x9 x10 v v kc ks P R' F N M S B a1 a2 a3) : wL_lawOf_247 post mc ms r q m x9 x10 z z kc ks P R F N M S B a1 a2 a3 := by
  refine br_t rfl ?_
  by_cases h0 : m < 0
  · exact br_t h0 (br_t h0 (G 0 R))
  · by_cases h6 : m ≤ 6
    · exact br_f h0 (br_t h6 (br_f h0 (br_f (fun t => Int32.not_le.mpr t h6) (G 1 m))))
    · exact br_f h0 (br_f h6 (br_f h0 (br_t (Int32.not_le.mp h6) (G 0 R))))
/-- the last check -/
theorem du_348 {mc ms kc ks : Nat} {z : Int32} : wL_lawOf_348 (fun r _ => r = 1) mc ms z z kc ks := br_t rfl rfl
theorem du_336 {mc ms kc ks : Nat} {r q x10 z : Int32} (h1 : q = r → z = x10) (h0 : ¬ q = r → z = 0) : wL_lawOf_336 (fun r _ => r = 1) mc ms r q x10 z kc ks := by
  refine br_c (fun h => ?_) (fun h => ?_)
  · rw [h1 h]
    exact du_348
  · rw [h0 h]
    exact du_348
/-- one of the two isn't a register -/
theorem du_276N {mc ms kc ks : Nat} {r q x10 v P R F N S B : Int32} {M : Int64} {a1 a2 : Nat → Int32} {a3 : Nat → Int64} (h : ¬ (du_reg r ∧ du_reg q)) (hx : ¬ du_reg r → x10 = 0) (hP : du_P r x10 a1 a2) :
    wL_lawOf_276 (fun r _ => r = 1) mc ms r q 0 x10 v v kc ks P R F N M S B a1 a2 a3 := by
  refine br_t rfl (du_divN h (br_t rfl (br_t rfl (du_coef (fun j hj ej => br_t rfl ?_) (fun hq => br_t rfl ?_)))))
  · have hr : ¬ du_reg r := fun t => h ⟨t, j, hj, ej⟩
    have ne : ¬ r = nI j := fun t => hr ⟨j, hj, t⟩
    rw [((hP j hj).2 ne).1]
    exact du_336 (fun t => absurd (t.symm.trans ej) ne) (fun _ => rfl)
  · exact du_336 (fun t => (hx (by rw [← t]; exact hq)).symm) (fun _ => rfl)
/-- both are registers -/
theorem du_276Y {mc ms kc ks : Nat} {x10 v R F N S B : Int32} {M : Int64} {k i j : Nat} {a1 a2 : Nat → Int32} {a3 : Nat → Int64} (hT : du_T a3) (hk : 3 ≤ k ∧ k ≤ 7) (hj : j < 6) (hi : i < 6) (hP : du_P (nI j) x10 a1 a2)
    (hv1 : -((10 ^ 7 : Nat) : Int) < x10.toInt) (hv2 : x10.toInt < ((10 ^ 7 : Nat) : Int)) :
    wL_lawOf_276 (fun r _ => r = 1) mc ms (nI j) (nI i) 1 x10 v v kc ks (nI k) R F N M S B a1 a2 a3 := by
  obtain ⟨pa, _, _⟩ := (hP j hj).1 rfl
  refine br_t rfl ?_
  by_cases h0 : x10 = 0
  · refine du_div0 hj hi (pa.trans h0) (fun F' => br_f du_10 (br_t h0 (br_t rfl (du_coef (fun n hn en => br_f du_10 (br_t h0 ?_)) (fun z => absurd ⟨i, hi, rfl⟩ z)))))
    have e : a1 n = 0 := by
      by_cases g : nI j = nI n
      · exact ((hP n hn).1 g).1.trans h0
      · exact ((hP n hn).2 g).1
    rw [e]
    exact du_336 (fun _ => h0.symm) (fun _ => rfl)
  · obtain ⟨m, s, hm, hV, hc⟩ := du_int x10 (b := 10 ^ 7) (by decide) hv1 hv2
    have m0 : 0 < m := by
      rcases hc with ⟨e, _⟩ | ⟨_, e, _⟩ | ⟨_, e, _⟩
      · exact absurd e h0
      · exact e
      · exact e
    rw [← pa] at hV
    refine du_div hT hk hj hi hV m0 hm (by rw [pa]; exact h0) (fun F' N' M' S' B' a2' => br_f du_10 (br_f h0 (br_t rfl (du_coef (fun n hn en => br_f du_10 (br_f h0 ?_)) (fun z => absurd ⟨i, hi, rfl⟩ z)))))
    have e : n = i := (nI_eq (by omega) (by omega)).mp en.symm
    rw [e, pk_us]
    exact du_348
theorem du_166 {p r c e q m x8 x9 x10 z0 : Int32} {k : Nat} (hK : du_K p k) (h8 : (du_put k r c e ∧ x8 = 1 ∧ x10 = c) ∨ (¬ du_put k r c e ∧ x8 = 0 ∧ x10 = 0)) (h9 : du_B r q x9)
    (hz : (q = r → z0 = x10) ∧ (¬ q = r → z0 = 0)) : wL_lawOf_166 (fun r _ => r = 1) 4 41 p r c e q m x8 x9 x10 z0 0 0 := by
  have hk := hK.1
  have hx : ¬ du_reg r → x10 = 0 := by
    intro h
    rcases h8 with ⟨g, _⟩ | ⟨_, _, g⟩
    · exact absurd g.1 h
    · exact g
  have hv : -((10 ^ 7 : Nat) : Int) < x10.toInt ∧ x10.toInt < ((10 ^ 7 : Nat) : Int) := by
    rcases h8 with ⟨g, _, g2⟩ | ⟨_, _, g⟩
    · have := g.2.2
      have := du_p31 hk.2
      rw [g2]
      omega
    · rw [g]
      decide
  refine ⟨by decide, by decide, 3, 31, by decide, by decide, du_init hK (fun a3 hT => ?_)⟩
  refine du_set hT hk h8 (fun a1 a2 hP => br_t rfl (du_coef (fun j hj ej => br_t ((hP j hj).1 ej).1 ?_) (fun hr => br_t (hx hr).symm ?_)))
  · rcases h9 with ⟨_, hq, e9⟩ | ⟨hn, e9⟩
    · obtain ⟨i, hi, ei⟩ := hq
      subst ej ei e9
      have ho : (i = j → z0 = x10) ∧ (¬ i = j → z0 = 0) := ⟨fun t => hz.1 (by rw [t]), fun t => hz.2 (fun y => t ((nI_eq (by omega) (by omega)).mp y))⟩
      refine du_cmp hT hj hi hP hv.1 hv.2 z0 ho (fun w N' M' S' B' hw => br_f du_10 ?_)
      have G : ∀ w : Int32, wL_lawOf_247 (fun r _ => r = 1) 4 41 (nI j) (nI i) m 1 x10 w w (0 + 1 + 3) (0 + 10 + 31) (nI k) 0 0 N' M' S' B' a1 a2 a3 := fun w => du_247 (fun v R' => du_276Y hT hk hj hi hP hv.1 hv.2)
      rcases hw with ⟨ew, hw⟩ | ⟨ew, hw⟩ | ⟨ew, hw⟩
      · rw [ew, hw]
        rw [hw] at G
        exact br_t (Int32.le_refl _) (br_t (Int32.le_refl _) (G 0))
      · rw [ew]
        exact br_t (Int32.le_of_lt hw) (br_f (Int32.not_le.mpr hw) (G 1))
      · rw [ew]
        exact br_f (Int32.not_le.mpr hw) (G (-1))
    · subst e9
      exact du_cmpN hn (br_t rfl (du_247 (fun v R' => du_276N hn hx hP)))
  · have hn : ¬ (du_reg r ∧ du_reg q) := fun t => hr t.1
    rcases h9 with ⟨g, _⟩ | ⟨_, e9⟩
    · exact absurd g hr
    · subst e9
      exact du_cmpN hn (br_t rfl (du_247 (fun v R' => du_276N hn hx hP)))
theorem du_140 {p r c e q m x8 x9 : Int32} {k : Nat} (hK : du_K p k) (h8 : (du_put k r c e ∧ x8 = 1) ∨ (¬ du_put k r c e ∧ x8 = 0)) (h9 : du_B r q x9) : wL_lawOf_140 (fun r _ => r = 1) 4 41 p r c e q m x8 x9 0 0 := by
  refine br_c (fun h => ?_) (fun h => ?_)
  · have g : (du_put k r c e ∧ x8 = 1 ∧ (0 : Int32) = c) ∨ (¬ du_put k r c e ∧ x8 = 0 ∧ (0 : Int32) = 0) := by
      rcases h8 with ⟨_, t⟩ | ⟨t, t2⟩
      · exact absurd (t.symm.trans h) du_10
      · exact Or.inr ⟨t, t2, rfl⟩
    exact br_c (fun y => du_166 hK g h9 ⟨fun _ => rfl, fun t => absurd y t⟩) (fun y => du_166 hK g h9 ⟨fun t => absurd t y, fun _ => rfl⟩)
  · have g : (du_put k r c e ∧ x8 = 1 ∧ c = c) ∨ (¬ du_put k r c e ∧ x8 = 0 ∧ c = 0) := by
      rcases h8 with ⟨t, t2⟩ | ⟨_, t⟩
      · exact Or.inl ⟨t, t2, rfl⟩
      · exact absurd t h
    exact br_c (fun y => du_166 hK g h9 ⟨fun _ => rfl, fun t => absurd y t⟩) (fun y => du_166 hK g h9 ⟨fun t => absurd t y, fun _ => rfl⟩)
theorem du_113 {p r c e q m x8 : Int32} {k : Nat} (hK : du_K p k) (h8 : (du_put k r c e ∧ x8 = 1) ∨ (¬ du_put k r c e ∧ x8 = 0)) : wL_lawOf_113 (fun r _ => r = 1) 4 41 p r c e q m x8 0 0 := by
  have G0 : ¬ (du_reg r ∧ du_reg q) → wL_lawOf_139 (fun r _ => r = 1) 4 41 p r c e q m x8 0 0 := fun h => du_140 hK h8 (Or.inr ⟨h, rfl⟩)
  refine br_c (fun z => G0 (fun t => ?_)) (fun z => br_c (fun z2 => G0 (fun t => ?_)) (fun z2 => br_c (fun z3 => G0 (fun t => ?_)) (fun z3 => br_c (fun z4 => G0 (fun t => ?_)) (fun z4 => du_140 hK h8 (Or.inl ⟨?_, ?_, rfl⟩)))))
  all_goals simp only [du_regI, du_lt0, du_5lt] at *
  all_goals omega
theorem du_72 {p r c e q m : Int32} {k : Nat} (hK : du_K p k) : wL_lawOf_72 (fun r _ => r = 1) 4 41 p r c e q m (nI (10 ^ k)) 0 0 := by
  have hk := hK.1.2
  have G0 : ¬ du_put k r c e → wL_lawOf_112 (fun r _ => r = 1) 4 41 p r c e q m 0 0 := fun h => du_113 hK (Or.inr ⟨h, rfl⟩)
  refine br_c (fun z => G0 (fun t => ?_)) (fun z => br_c (fun z2 => G0 (fun t => ?_)) (fun z2 => br_c (fun z3 => G0 (fun t => ?_)) (fun z3 => br_c (fun z4 => G0 (fun t => ?_)) (fun z4 => br_c (fun z5 => G0 (fun t => ?_)) (fun z5 => br_c (fun z6 => G0 (fun t => ?_)) (fun z6 => du_113 hK (Or.inl ⟨?_, rfl⟩)))))))
  · have t1 := (du_regI r).mp t.1
    rw [du_lt0] at z
    omega
  · have t1 := (du_regI r).mp t.1
    rw [du_5lt] at z2
    omega
  · have t1 := t.2.1.1
    rw [du_m20] at z3
    omega
  · have t1 := t.2.1.2
    rw [du_20lt] at z4
    omega
  · have t1 := t.2.2.1
    rw [du_szl hk] at z5
    omega
  · have t1 := t.2.2.2
    rw [du_szr hk] at z6
    omega
  · rw [du_lt0] at z
    rw [du_5lt] at z2
    rw [du_m20] at z3
    rw [du_20lt] at z4
    rw [du_szl hk] at z5
    rw [du_szr hk] at z6
    exact ⟨(du_regI r).mpr ⟨by omega, by omega⟩, ⟨by omega, by omega⟩, ⟨by omega, by omega⟩⟩
theorem du_21 {post : Int32 → St0 → Prop} {mc ms kc ks : Nat} {p r c e q m : Int32} {k : Nat} (hk : 3 ≤ k ∧ k ≤ 7) (G : wL_lawOf_72 post mc ms p r c e q m (nI (10 ^ k)) kc ks) : wL_lawOf_21 post mc ms p r c e q m (nI k) kc ks := by
  have h : k = 3 ∨ k = 4 ∨ k = 5 ∨ k = 6 ∨ k = 7 := by omega
  rcases h with rfl | rfl | rfl | rfl | rfl
  · exact br_t (by decide) G
  · exact br_f (by decide) (br_t (by decide) G)
  · exact br_f (by decide) (br_f (by decide) (br_t (by decide) G))
  · exact br_f (by decide) (br_f (by decide) (br_f (by decide) (br_t (by decide) G)))
  · exact br_f (by decide) (br_f (by decide) (br_f (by decide) (br_f (by decide) G)))
theorem du_lawOf (p r c e q m : Int32) : wpL_lawOf (fun r _ => r = 1) 4 41 () p r c e q m := by
  refine br_c (fun h => br_c (fun h2 => ?_) (fun h2 => ?_)) (fun h => ?_)
  · have h0 : ¬ p < 0 := fun t => by
      have t1 := Int32.le_iff_toInt_le.mp h
      rw [du_lt0] at t
      rw [show (3 : Int32).toInt = 3 from rfl] at t1
      omega
    obtain ⟨k, hk, ek⟩ := nI_of2 (x := p) (M := 7) (n := 7) (by decide) h0 h2
    have h3 : 3 ≤ k := by
      have t1 := h
      rw [ek] at t1
      exact (nI_leI (a := 3) (by decide) (by omega)).mp t1
    have g := du_21 ⟨h3, hk⟩ (du_72 (r := r) (c := c) (e := e) (q := q) (m := m) (k := k) (p := p) ⟨⟨h3, hk⟩, Or.inl ⟨h, h2, ek⟩⟩)
    rw [← ek] at g
    exact g
  · exact du_21 (k := 7) (by decide) (du_72 ⟨by decide, Or.inr (Or.inl ⟨h, h2, rfl⟩)⟩)
  · exact du_21 (k := 3) (by decide) (du_72 ⟨by decide, Or.inr (Or.inr ⟨h, rfl⟩)⟩)
theorem du_cell {post : Int32 → Prop} {L : Nat} {xs : Nat → Int32} (hL : L ≤ 6) (i : Nat) (hi : i < 6) (H : ∀ x, post x) : wpL_cellAt post L xs () (nI i) :=
  pk_le L i (fun _ => H 0) (fun z => ⟨pk_in i L z, H _⟩)
theorem i_vc (xs : Nat → Int32) (L : Nat) (hL : L ≤ 6) : wpL_law (fun r => r = 1) L xs :=
  du_cell hL 0 (by decide) (fun p => du_cell hL 1 (by decide) (fun r => du_cell hL 2 (by decide) (fun c => du_cell hL 3 (by decide) (fun e => du_cell hL 4 (by decide) (fun q => du_cell hL 5 (by decide) (fun m => ⟨4, 41, by decide, by decide, du_lawOf p r c e q m⟩))))))
end
