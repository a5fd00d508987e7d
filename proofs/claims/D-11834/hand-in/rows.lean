section
/-! ===== from kit/laws/BITS.to-paste (family wb_): longs as naturals, masks and shifts ===== -/
theorem wb_tb (n : Nat) : (lN n).toBitVec = BitVec.ofNat 64 n := rfl
theorem wb_inj {a b : Int64} (h : a.toBitVec = b.toBitVec) : a = b := Int64.toBitVec_inj.mp h
theorem wb_tn {n : Nat} (h : n < 2 ^ 64) : (lN n).toBitVec.toNat = n := by rw [wb_tb, BitVec.toNat_ofNat, Nat.mod_eq_of_lt h]
theorem wb_cu : ∀ k, k < 64 → ((nI k).toInt64.toUInt64 &&& Int64.toUInt64 63) = UInt64.ofNat k := by decide +kernel
theorem wb_lt2 {a b : Nat} (h : a < b) : 2 ^ a < 2 ^ b := Nat.pow_lt_pow_right (by decide) h
theorem wb_shr {n k : Nat} (hn : n < 2 ^ 64) (hk : k < 64) : ((lN n).toUInt64 >>> ((nI k).toInt64.toUInt64 &&& Int64.toUInt64 63)).toInt64 = lN (n / 2 ^ k) := by
  rw [wb_cu k hk]
  apply wb_inj
  apply BitVec.eq_of_toNat_eq
  show ((lN n).toUInt64 >>> UInt64.ofNat k).toNat = (BitVec.ofNat 64 _).toNat
  have h1 : (UInt64.ofNat k).toNat = k := by
    show (BitVec.ofNat 64 k).toNat = k
    rw [BitVec.toNat_ofNat, Nat.mod_eq_of_lt (by omega)]
  have h2 : (lN n).toUInt64.toNat = n := wb_tn hn
  rw [UInt64.toNat_shiftRight, h1, h2, Nat.mod_eq_of_lt hk, Nat.shiftRight_eq_div_pow, BitVec.toNat_ofNat, Nat.mod_eq_of_lt (Nat.lt_of_le_of_lt (Nat.div_le_self _ _) hn)]
theorem wb_and {a b : Nat} (ha : a < 2 ^ 64) (hb : b < 2 ^ 64) : lN a &&& lN b = lN (a &&& b) := by
  apply wb_inj
  rw [Int64.toBitVec_and, wb_tb, wb_tb, wb_tb]
  apply BitVec.eq_of_toNat_eq
  rw [BitVec.toNat_and, BitVec.toNat_ofNat, BitVec.toNat_ofNat, BitVec.toNat_ofNat, Nat.mod_eq_of_lt ha, Nat.mod_eq_of_lt hb, Nat.mod_eq_of_lt (Nat.and_lt_two_pow _ hb)]
theorem wb_mask {n k : Nat} (hn : n < 2 ^ 64) (hk : k < 64) : lN n &&& lN (2 ^ k - 1) = lN (n % 2 ^ k) := by
  rw [wb_and hn (by have := wb_lt2 hk; omega), Nat.and_two_pow_sub_one_eq_mod]
/-! ===== elements of the field as ints and as longs ===== -/
/-- the int that stands for z modulo 2^31 - 1 -/
def sq_f (z : Int) : Int32 := nI (z % 2147483647).toNat
/-- the long that stands for z modulo 2^31 - 1 -/
def sq_l (z : Int) : Int64 := lN (z % 2147483647).toNat
theorem sq_n (z : Int) : ∃ n : Nat, n < 2147483647 ∧ (n : Int) = z % 2147483647 ∧ sq_f z = nI n ∧ sq_l z = lN n :=
  ⟨(z % 2147483647).toNat, by omega, by omega, rfl, rfl⟩
theorem sq_of {z : Int} {n : Nat} (h : (n : Int) = z % 2147483647) : nI n = sq_f z := by
  have e : n = (z % 2147483647).toNat := by omega
  rw [e]; rfl
theorem sq_ol {z : Int} {n : Nat} (h : (n : Int) = z % 2147483647) : lN n = sq_l z := by
  have e : n = (z % 2147483647).toNat := by omega
  rw [e]; rfl
theorem sq_nf {n : Nat} (h : n < 2147483647) : nI n = sq_f n := sq_of (by omega)
theorem sq_nl {n : Nat} (h : n < 2147483647) : lN n = sq_l n := sq_ol (by omega)
theorem sq_fe {x y : Int} (h : x % 2147483647 = y % 2147483647) : sq_f x = sq_f y := by
  unfold sq_f; rw [h]
theorem sq_le {x y : Int} (h : x % 2147483647 = y % 2147483647) : sq_l x = sq_l y := by
  unfold sq_l; rw [h]
theorem sq_fi {x y : Int} : sq_f x = sq_f y ↔ x % 2147483647 = y % 2147483647 := by
  refine ⟨fun h => ?_, sq_fe⟩
  obtain ⟨a, ha, ea, fa, -⟩ := sq_n x
  obtain ⟨b, hb, eb, fb, -⟩ := sq_n y
  rw [fa, fb, nI_eq (by omega) (by omega)] at h
  omega
theorem sq_l0 {x : Int} : sq_l x = 0 ↔ x % 2147483647 = 0 := by
  obtain ⟨a, ha, ea, -, fa⟩ := sq_n x
  rw [fa, show (0 : Int64) = lN 0 from rfl, pk_lEQ (by omega) (by omega)]
  omega
theorem sq_fl (z : Int) : (sq_f z).toInt64 = sq_l z := by
  obtain ⟨a, ha, ea, fa, la⟩ := sq_n z
  rw [fa, la, nI_l (by omega)]
theorem sq_lT (z : Int) : (sq_l z).toInt = z % 2147483647 := by
  obtain ⟨a, ha, ea, -, la⟩ := sq_n z
  rw [la, pk_lT (by omega), ea]
theorem sq_pos (z : Int) : ¬ sq_f z < 0 := by
  obtain ⟨a, ha, ea, fa, -⟩ := sq_n z
  rw [fa]; exact nI_pos (by omega)
theorem sq_b64 {z : Int} (h1 : -9223372036854775808 ≤ z) (h2 : z < 9223372036854775808) : z.bmod (2 ^ 64) = z :=
  Int.bmod_eq_of_le (by omega) (by omega)
theorem sq_b32 {z : Int} (h1 : -2147483648 ≤ z) (h2 : z < 2147483648) : z.bmod (2 ^ 32) = z :=
  Int.bmod_eq_of_le (by omega) (by omega)
theorem sq_mm (x y : Int) : (x * y) % 2147483647 = ((x % 2147483647) * (y % 2147483647)) % 2147483647 := Int.mul_emod x y _
/-! ===== the component's arithmetic ===== -/
theorem sq_plus {post : Int32 → Prop} {x y : Int} (h : post (sq_f (x + y))) : wpX_plus post () (sq_f x) (sq_f y) := by
  obtain ⟨a, ha, ea, fa, -⟩ := sq_n x
  obtain ⟨b, hb, eb, fb, -⟩ := sq_n y
  rw [fa, fb]
  intro s es
  rw [nI_l (by omega), nI_l (by omega), lN_add] at es
  subst es
  rw [show (2147483647 : Int64) = lN 2147483647 from rfl]
  refine br_c (fun hl => ?_) (fun hg => ?_)
  · rw [pk_lLT (by omega) (by omega)] at hl
    rw [lN_i, sq_of (z := x + y) (by omega)]
    exact h
  · rw [pk_lLT (by omega) (by omega)] at hg
    rw [lN_sub (by omega), lN_i, sq_of (z := x + y) (by omega)]
    exact h
theorem sq_fold1 {p s : Nat} (hp : p ≤ 4611686009837453316) (hs : s = p % 2 ^ 31 + p / 2 ^ 31) (h : s < 2147483647) : s = p % 2147483647 := by omega
theorem sq_fold2 {p s : Nat} (hp : p ≤ 4611686009837453316) (hs : s = p % 2 ^ 31 + p / 2 ^ 31) (h : ¬ s < 2147483647) : s - 2147483647 = p % 2147483647 := by omega
theorem sq_times {post : Int32 → Prop} {x y : Int} (h : post (sq_f (x * y))) : wpX_times post () (sq_f x) (sq_f y) := by
  obtain ⟨a, ha, ea, fa, -⟩ := sq_n x
  obtain ⟨b, hb, eb, fb, -⟩ := sq_n y
  rw [fa, fb]
  have hab : a * b ≤ 2147483646 * 2147483646 := Nat.mul_le_mul (by omega) (by omega)
  have hxy : ((a * b : Nat) : Int) % 2147483647 = (x * y) % 2147483647 := by
    rw [sq_mm x y, ← ea, ← eb, Int.natCast_mul]
  generalize hp : a * b = p at hab hxy
  have hp' : p ≤ 4611686009837453316 := hab
  intro u eu s es
  rw [nI_l (by omega), nI_l (by omega), lN_mul, hp] at eu
  rw [eu, show (2147483647 : Int64) = lN (2 ^ 31 - 1) from rfl, wb_mask (by omega) (by decide), show (31 : Int32) = nI 31 from rfl, wb_shr (by omega) (by decide), lN_add] at es
  generalize hs : p % 2 ^ 31 + p / 2 ^ 31 = t at es
  subst es
  rw [show (2147483647 : Int64) = lN 2147483647 from rfl]
  refine br_c (fun hl => ?_) (fun hg => ?_)
  · rw [pk_lLT (by omega) (by omega)] at hl
    have e := sq_fold1 hp' hs.symm hl
    rw [lN_i, sq_of (z := x * y) (by omega)]
    exact h
  · rw [pk_lLT (by omega) (by omega)] at hg
    have e := sq_fold2 hp' hs.symm hg
    rw [lN_sub (by omega), lN_i, sq_of (z := x * y) (by omega)]
    exact h
theorem sq_minus {post : Int32 → Prop} {x y : Int} (h : post (sq_f (x - y))) : wpX_minus post () (sq_f x) (sq_f y) := by
  obtain ⟨a, ha, ea, fa, -⟩ := sq_n x
  obtain ⟨b, hb, eb, fb, -⟩ := sq_n y
  rw [fa, fb]
  intro s es
  rcases Nat.lt_or_ge a b with hl | hg
  · have hn : ¬ 0 ≤ s := by
      rw [es, Int32.le_iff_toInt_le, Int32.toInt_sub, nI_toInt (by omega), nI_toInt (by omega), sq_b32 (by omega) (by omega)]
      show ¬ (0 : Int) ≤ _
      omega
    have ev : s + 2147483647 = nI (a + 2147483647 - b) := by
      have e1 : nI (a + 2147483647 - b) + nI b = nI a + nI 2147483647 := by
        rw [nI_add, nI_add]; congr 1; omega
      have e2 : nI 2147483647 = (2147483647 : Int32) := rfl
      rw [e2] at e1
      rw [es]
      grind
    refine br_f hn ?_
    rw [ev, sq_of (z := x - y) (by omega)]
    exact h
  · rw [pk_sub hg] at es
    subst es
    refine br_t (nI_pos' (by omega)) ?_
    rw [sq_of (z := x - y) (by omega)]
    exact h
theorem sq_blend {post : Int32 → Prop} {x y r : Int} (h : post (sq_f (x + (y - x) * r))) : wpX_blend post () (sq_f x) (sq_f y) (sq_f r) :=
  sq_minus (sq_times (sq_plus h))
theorem sq_beyondOne {post : Int32 → Prop} {x y : Int} (h : post (sq_f (y + y - x))) : wpX_beyondOne post () (sq_f x) (sq_f y) :=
  sq_plus (sq_minus h)
theorem sq_element {post : Int32 → Prop} {z : Int} (h : post 1) : wpX_element post () (sq_f z) := by
  obtain ⟨a, ha, ea, fa, -⟩ := sq_n z
  rw [fa]
  exact br_f (nI_pos (by omega)) (br_f (nI_ge (b := 2147483647) ha (by decide)) h)
theorem sq_steep {post : Int32 → Prop} {x : Int} {t : Nat} (ht : t < 3) (h : post (sq_f (x * (1 - t)))) : wpX_steep post () (sq_f x) (nI t) := by
  rcases (by omega : t = 0 ∨ t = 1 ∨ t = 2) with rfl | rfl | rfl
  · refine br_t (by decide) ?_
    rw [show x * (1 - ((0 : Nat) : Int)) = x by omega] at h
    exact h
  · refine br_f (by decide) (br_t (by decide) ?_)
    rw [show x * (1 - ((1 : Nat) : Int)) = 0 by omega] at h
    exact h
  · refine br_f (by decide) (br_f (by decide) ?_)
    rw [show x * (1 - ((2 : Nat) : Int)) = 0 - x by omega] at h
    exact sq_minus (x := 0) h
/-! ===== the law's field ===== -/
/-- the long v stands for z and lies between lo and hi -/
def sq_V (v : Int64) (z lo hi : Int) : Prop := v.toInt % 2147483647 = z % 2147483647 ∧ lo ≤ v.toInt ∧ v.toInt ≤ hi
theorem sq_Vl (z : Int) : sq_V (sq_l z) z 0 2147483646 := by
  unfold sq_V; rw [sq_lT]; omega
theorem sq_Vn {n m : Nat} (h : n ≤ m) (hm : m < 2147483647) : sq_V (lN n) n 0 m := by
  unfold sq_V; rw [pk_lT (by omega)]; omega
theorem sq_Vadd {u v : Int64} {x y a b c d : Int} (hu : sq_V u x a b) (hv : sq_V v y c d) (h1 : -9223372036854775808 ≤ a + c) (h2 : b + d < 9223372036854775808) : sq_V (u + v) (x + y) (a + c) (b + d) := by
  obtain ⟨u1, u2, u3⟩ := hu
  obtain ⟨v1, v2, v3⟩ := hv
  unfold sq_V
  rw [Int64.toInt_add, sq_b64 (by omega) (by omega)]
  omega
theorem sq_Vsub {u v : Int64} {x y a b c d : Int} (hu : sq_V u x a b) (hv : sq_V v y c d) (h1 : -9223372036854775808 ≤ a - d) (h2 : b - c < 9223372036854775808) : sq_V (u - v) (x - y) (a - d) (b - c) := by
  obtain ⟨u1, u2, u3⟩ := hu
  obtain ⟨v1, v2, v3⟩ := hv
  unfold sq_V
  rw [Int64.toInt_sub, sq_b64 (by omega) (by omega)]
  omega
theorem sq_Vmul {u v : Int64} {x y b d : Int} (hu : sq_V u x 0 b) (hv : sq_V v y 0 d) (h2 : b * d < 9223372036854775808) : sq_V (u * v) (x * y) 0 (b * d) := by
  obtain ⟨u1, u2, u3⟩ := hu
  obtain ⟨v1, v2, v3⟩ := hv
  have h0 : 0 ≤ u.toInt * v.toInt := Int.mul_nonneg u2 v2
  have h3 : u.toInt * v.toInt ≤ b * d := Int.mul_le_mul u3 v3 v2 (by omega)
  unfold sq_V
  rw [Int64.toInt_mul, sq_b64 (by omega) (by omega)]
  refine ⟨?_, h0, h3⟩
  rw [sq_mm, u1, v1, ← sq_mm]
theorem sq_rem {v x : Int64} (h1 : -4611686018427387904 ≤ v.toInt) (h2 : v.toInt ≤ 4611686018427387904) (hx : x = v - v / 2147483647 * 2147483647) : ∃ k : Int, x.toInt = v.toInt + 2147483647 * k ∧ -2147483647 < x.toInt ∧ x.toInt < 2147483647 := by
  have hP : (2147483647 : Int64).toInt = 2147483647 := by decide
  have hd : (v / 2147483647).toInt = v.toInt.tdiv 2147483647 := by
    rw [Int64.toInt_div_of_ne_right _ _ (by decide), hP]
  generalize hq : v.toInt.tdiv 2147483647 = q at hd
  have hb : -2147483647 < v.toInt - q * 2147483647 ∧ v.toInt - q * 2147483647 < 2147483647 := by
    rcases (by omega : v.toInt < 0 ∨ 0 ≤ v.toInt) with hn | hn
    · have e : v.toInt.tdiv 2147483647 = -((-v.toInt) / 2147483647) := by
        rw [← Int.tdiv_eq_ediv_of_nonneg (by omega), Int.neg_tdiv, Int.neg_neg]
      omega
    · rw [Int.tdiv_eq_ediv_of_nonneg hn] at hq
      omega
  have hx' : x.toInt = v.toInt - q * 2147483647 := by
    rw [hx, Int64.toInt_sub, Int64.toInt_mul, hd, hP, sq_b64 (z := q * 2147483647) (by omega) (by omega), sq_b64 (by omega) (by omega)]
  exact ⟨-q, by omega, by omega, by omega⟩
theorem sq_field {post : Int64 → Prop} {v : Int64} {z lo hi : Int} (hv : sq_V v z lo hi) (h : post (sq_l z)) (h1 : -4611686018427387904 ≤ lo := by decide) (h2 : hi ≤ 4611686018427387904 := by decide) : wpL_field post () v := by
  obtain ⟨v1, v2, v3⟩ := hv
  refine ⟨by decide, fun x ex => ?_⟩
  obtain ⟨k, k1, k2, k3⟩ := sq_rem (by omega) (by omega) ex
  have h0 : (0 ≤ x) ↔ 0 ≤ x.toInt := Int64.le_iff_toInt_le
  refine br_c (fun hp => ?_) (fun hn => ?_)
  · rw [h0] at hp
    have e : x = sq_l z := by
      apply Int64.toInt_inj.mp
      rw [sq_lT]; omega
    rw [e]; exact h
  · rw [h0] at hn
    have e : x + 2147483647 = sq_l z := by
      apply Int64.toInt_inj.mp
      rw [sq_lT, Int64.toInt_add, show (2147483647 : Int64).toInt = 2147483647 by decide, sq_b64 (by omega) (by omega)]
      omega
    rw [e]; exact h
end
section
section
variable {va ma st gi ru ts : Int32} {a1 a2 a3 a4 a5 a6 a7 a8 : Nat → Int32}
/-! ===== clauses ===== -/
theorem sq_isF {post : Int32 → Prop} {f : Nat} (hf : f < 2) (h : post 1) : wpX_isFormula post () (nI f) := by
  rcases (by omega : f = 0 ∨ f = 1) with rfl | rfl
  · exact br_t (by decide) h
  · exact br_f (by decide) (br_t (by decide) h)
theorem sq_bey {post : Int32 → Prop} {p : Nat} (hp : p < 2) (h : post 0) : wpX_beyond post (1, ma, st, gi, ru, ts, a1, a2, a3, a4, a5, a6, a7, a8) (nI p) := by
  rcases (by omega : p = 0 ∨ p = 1) with rfl | rfl
  · exact br_t (by decide) h
  · exact br_t (by decide) h
theorem sq_byte : ∀ p, p < 2 → (nI p).toInt8.toInt32 = nI p := by decide +kernel
theorem sq_6 : ∀ f, f < 2 → (nI f * 6) + 0 = nI (f * 6) := by decide +kernel
theorem sq_clause {post : Int32 → St2 → Prop} {f p n : Nat} (hf : f < 2) (hp : p < 2) (hn : n < 2) (h3 : a3 f = 0)
    (h : post 0 (1, ma, 0, 0, 0, ts, upd a1 (f * 6) (nI p), upd a2 (f * 6) (nI n), upd a3 f 1, a4, a5, a6, a7, a8)) :
    wpX_clause post (1, ma, st, gi, ru, ts, a1, a2, a3, a4, a5, a6, a7, a8) (nI f) (nI p) (nI n) := by
  unfold wpX_clause
  refine sq_isF hf (br_f (by decide) (sq_bey hp (br_t rfl (sq_bey hn (br_t rfl ?_)))))
  have hc : (nI f).toNatClampNeg = f := nI_clamp (by omega)
  refine ⟨vp_in_nI hf (by decide), nm_r (e' := 0) (by rw [hc, h3]) (br_t (by decide) ?_)⟩
  rw [sq_6 f hf, sq_byte p hp, sq_byte n hn, hc, h3, nI_clamp (n := f * 6) (by omega)]
  refine ⟨vp_in_nI (by omega) (by decide), nm_e ⟨vp_in_nI (by omega) (by decide), nm_e ⟨vp_in_nI hf (by decide), vp_in_nI hf (by decide), nm_r (e' := upd a3 f 1) (by rfl) ?_⟩⟩⟩
  exact h
theorem sq_manner {post : Int32 → St2 → Prop} {m : Nat} (hm : m < 3) (h : post 0 (va, nI m, st, gi, ru, ts, a1, a2, a3, a4, a5, a6, a7, a8)) :
    wpX_manner post (va, ma, st, gi, ru, ts, a1, a2, a3, a4, a5, a6, a7, a8) (nI m) :=
  br_f (nI_pos (by omega)) (br_t (nI_le (b := 2) (by omega) (by decide)) h)
/-! ===== the tables' first values ===== -/
theorem sq_v0 : ∀ p, p < 2 → ∀ n, n < 2 → ((((nI p) &&& nI 0) ||| ((nI n) &&& (nI 0 ^^^ (-1)))) = 0 ↔ n = 0) := by decide +kernel
theorem sq_v1 : ∀ p, p < 2 → ∀ n, n < 2 → ((((nI p) &&& nI 1) ||| ((nI n) &&& (nI 1 ^^^ (-1)))) = 0 ↔ p = 0) := by decide +kernel
theorem sq_valueB {post : Int32 → Prop} {f p n w : Nat} {x : Int32} (hf : f < 2) (h3 : a3 f = 1) (h1 : a1 (f * 6) = nI p) (h2 : a2 (f * 6) = nI n) (hw : w < 2)
    (hx : (((nI p) &&& x) ||| ((nI n) &&& (x ^^^ (-1)))) = 0 ↔ w = 0) (h : post (nI w)) :
    wpX_value post (va, ma, st, gi, ru, ts, a1, a2, a3, a4, a5, a6, a7, a8) (nI f) x := by
  have hc : (nI f).toNatClampNeg = f := nI_clamp (by omega)
  refine ⟨2, vp_in_nI hf (by decide), ?_⟩
  rw [hc, h3]
  refine br_f (by decide) (nm_r (sq_6 f hf) ⟨vp_in_nI (by omega) (by decide), vp_in_nI (by omega) (by decide), ?_⟩)
  rw [nI_clamp (n := f * 6) (by omega), h1, h2]
  rcases (by omega : w = 0 ∨ w = 1) with rfl | rfl
  · exact br_t (hx.mpr rfl) h
  · refine br_f (fun z => absurd (hx.mp z) (by decide)) (nm_e ⟨vp_in_nI hf (by decide), ?_⟩)
    rw [hc, h3]
    exact br_t (by decide) h
theorem sq_value0 {post : Int32 → Prop} {f p n : Nat} (hf : f < 2) (hp : p < 2) (hn : n < 2) (h3 : a3 f = 1) (h1 : a1 (f * 6) = nI p) (h2 : a2 (f * 6) = nI n) (h : post (nI n)) :
    wpX_value post (va, ma, st, gi, ru, ts, a1, a2, a3, a4, a5, a6, a7, a8) (nI f) (nI 0) :=
  sq_valueB hf h3 h1 h2 hn (sq_v0 p hp n hn) h
theorem sq_value1 {post : Int32 → Prop} {f p n : Nat} (hf : f < 2) (hp : p < 2) (hn : n < 2) (h3 : a3 f = 1) (h1 : a1 (f * 6) = nI p) (h2 : a2 (f * 6) = nI n) (h : post (nI p)) :
    wpX_value post (va, ma, st, gi, ru, ts, a1, a2, a3, a4, a5, a6, a7, a8) (nI f) (nI 1) :=
  sq_valueB hf h3 h1 h2 hp (sq_v1 p hp n hn) h
/-! ===== the sums along the round's variable ===== -/
theorem sq_addTo {post : St2 → Prop} {t : Nat} {x y z : Int} (ht : t < 3) (h6 : a6 t = sq_f z) (h : post (va, ma, st, gi, ru, ts, a1, a2, a3, a4, a5, upd a6 t (sq_f (z + x * y)), a7, a8)) :
    wpX_addTo post (va, ma, st, gi, ru, ts, a1, a2, a3, a4, a5, a6, a7, a8) (nI t) (sq_f x) (sq_f y) := by
  unfold wpX_addTo
  have hc : (nI t).toNatClampNeg = t := nI_clamp (by omega)
  refine sq_times ⟨vp_in_nI ht (by decide), ?_⟩
  rw [hc, h6]
  exact sq_plus ⟨vp_in_nI ht (by decide), nm_e h⟩
theorem sq_sum {post : St2 → Prop} {x0 x1 y0 y1 : Int} (h70 : a7 0 = sq_f x0) (h71 : a7 1 = sq_f x1) (h80 : a8 0 = sq_f y0) (h81 : a8 1 = sq_f y1)
    (H : ∀ b : Nat → Int32, b 0 = sq_f (x0 * y0) → b 1 = sq_f (x1 * y1) → b 2 = sq_f ((x1 + x1 - x0) * (y1 + y1 - y0)) → post (va, ma, st, gi, ru, 2, a1, a2, a3, a4, a5, b, a7, a8)) :
    wpX_sum post (va, ma, st, gi, ru, 2, a1, a2, a3, a4, a5, a6, a7, a8) := by
  have z0 : (0 : Int32) = sq_f 0 := rfl
  have c0 : ((2 : Int32) * 0).toNatClampNeg = 0 := by decide
  have c1 : ((2 : Int32) * 0 + 1).toNatClampNeg = 1 := by decide
  have i0 : vp_in ((2 : Int32) * 0) 32 := vp_in_nI (n := 0) (by decide) (by decide)
  have i1 : vp_in ((2 : Int32) * 0 + 1) 32 := vp_in_nI (n := 1) (by decide) (by decide)
  refine nm_e (nm_e (nm_e (nm_r (e' := 1) (by decide) ⟨2, br_f (by decide) ⟨i0, i0, ?_⟩⟩)))
  rw [c0, c1, h70, h80]
  refine sq_addTo (t := 0) (z := 0) (by decide) rfl ⟨i1, i1, ?_⟩
  rw [h71, h81]
  refine sq_addTo (t := 1) (z := 0) (by decide) rfl ⟨i0, i1, ?_⟩
  rw [h70, h71]
  refine sq_beyondOne ⟨i0, i1, ?_⟩
  rw [h80, h81]
  refine sq_beyondOne (sq_addTo (t := 2) (z := 0) (by decide) rfl (nm_e (br_t (by decide) ?_)))
  refine H _ ?_ ?_ ?_
  · show sq_f (0 + x0 * y0) = _
    rw [Int.zero_add]
  · show sq_f (0 + x1 * y1) = _
    rw [Int.zero_add]
  · show sq_f (0 + (x1 + x1 - x0) * (y1 + y1 - y0)) = _
    rw [Int.zero_add]
/-! ===== the message of a round ===== -/
/-- what the manner adds to the message at t -/
def sq_sh (m : Nat) (g : Int) (t : Nat) : Int := if m = 1 then g * 1073741824 else if m = 2 then g * (1 - t) else 0
theorem sq_sendStep {post : St2 → Prop} {m n t : Nat} {g z : Int} (hm : m < 3) (ht : t < 3) (h6 : a6 t = sq_f z)
    (h : wX_send_39 post (sq_f g) (sq_f (g * 1073741824)) va (nI m) st gi ru ts n (nI (t + 1)) a1 a2 a3 a4 (upd a5 t (sq_f (z + sq_sh m g t))) a6 a7 a8) :
    wX_send_39 post (sq_f g) (sq_f (g * 1073741824)) va (nI m) st gi ru ts (n + 1) (nI t) a1 a2 a3 a4 a5 a6 a7 a8 := by
  have hc : (nI t).toNatClampNeg = t := nI_clamp (by omega)
  have key : ∀ s : Int, s = sq_sh m g t → wX_send_78 post (wX_send_39 post (sq_f g) (sq_f (g * 1073741824)) va (nI m) st gi ru ts n) (sq_f g) (sq_f (g * 1073741824)) (nI t) (sq_f s) va (nI m) st gi ru ts a1 a2 a3 a4 a5 a6 a7 a8 := by
    intro s es
    unfold wX_send_78
    rw [hc, h6, nI_1]
    refine ⟨vp_in_nI ht (by decide), sq_plus ⟨vp_in_nI ht (by decide), nm_e (nm_e ?_)⟩⟩
    rw [es]
    exact h
  refine br_f (nI_ge (b := 3) ht (by decide)) ?_
  rcases (by omega : m = 0 ∨ m = 1 ∨ m = 2) with rfl | rfl | rfl
  · exact br_f (by decide) (br_f (by decide) (key 0 rfl))
  · exact br_t (by decide) (key _ rfl)
  · exact br_f (by decide) (br_t (by decide) (sq_steep ht (key _ rfl)))
theorem sq_send {post : St2 → Prop} {m : Nat} {x0 x1 y0 y1 c g : Int} (hm : m < 3) (h70 : a7 0 = sq_f x0) (h71 : a7 1 = sq_f x1) (h80 : a8 0 = sq_f y0) (h81 : a8 1 = sq_f y1)
    (hg : g = c - (x0 * y0 + x1 * y1))
    (H : ∀ (s : Int32) (b b' : Nat → Int32),
      b 0 = sq_f (x0 * y0 + sq_sh m g 0) → b 1 = sq_f (x1 * y1 + sq_sh m g 1) → b 2 = sq_f ((x1 + x1 - x0) * (y1 + y1 - y0) + sq_sh m g 2) →
      ((x0 * y0 + sq_sh m g 0 + (x1 * y1 + sq_sh m g 1)) % 2147483647 = c % 2147483647 → s = 1) →
      (¬ (x0 * y0 + sq_sh m g 0 + (x1 * y1 + sq_sh m g 1)) % 2147483647 = c % 2147483647 → s = 3) →
      post (va, nI m, s, gi, sq_f c, 2, a1, a2, a3, a4, b, b', a7, a8)) :
    wpX_send post (va, nI m, st, gi, sq_f c, 2, a1, a2, a3, a4, a5, a6, a7, a8) := by
  unfold wpX_send
  refine sq_sum h70 h71 h80 h81 (fun b b0 b1 b2 => ?_)
  dsimp only
  rw [b0, b1]
  refine sq_plus (sq_minus ?_)
  rw [← hg]
  refine sq_times (x := g) (y := 1073741824) ⟨4, ?_⟩
  refine sq_sendStep (t := 0) hm (by decide) b0 (sq_sendStep (t := 1) hm (by decide) b1 (sq_sendStep (t := 2) hm (by decide) b2 ?_))
  refine br_t (by decide) ?_
  refine sq_plus (x := x0 * y0 + sq_sh m g 0) (y := x1 * y1 + sq_sh m g 1) ?_
  refine br_c (fun e => ?_) (fun e => ?_)
  · rw [sq_fi] at e
    exact H 1 _ b rfl rfl rfl (fun _ => rfl) (fun ne => absurd e ne)
  · rw [sq_fi] at e
    exact H 3 _ b rfl rfl rfl (fun ee => absurd ee e) (fun _ => rfl)
theorem sq_start {post : Int32 → St2 → Prop} {m p0 n0 p1 n1 : Nat} {c g : Int} (hm : m < 3) (hp0 : p0 < 2) (hn0 : n0 < 2) (hp1 : p1 < 2) (hn1 : n1 < 2)
    (h30 : a3 0 = 1) (h31 : a3 1 = 1) (h10 : a1 0 = nI p0) (h20 : a2 0 = nI n0) (h16 : a1 6 = nI p1) (h26 : a2 6 = nI n1)
    (hg : g = c - ((n0 : Int) * n1 + (p0 : Int) * p1))
    (H : ∀ (s : Int32) (b b' b7 b8 : Nat → Int32),
      b 0 = sq_f ((n0 : Int) * n1 + sq_sh m g 0) → b 1 = sq_f ((p0 : Int) * p1 + sq_sh m g 1) → b 2 = sq_f (((p0 : Int) + p0 - n0) * ((p1 : Int) + p1 - n1) + sq_sh m g 2) →
      b7 0 = sq_f n0 → b7 1 = sq_f p0 → b8 0 = sq_f n1 → b8 1 = sq_f p1 →
      (((n0 : Int) * n1 + sq_sh m g 0 + ((p0 : Int) * p1 + sq_sh m g 1)) % 2147483647 = c % 2147483647 → s = 1) →
      (¬ ((n0 : Int) * n1 + sq_sh m g 0 + ((p0 : Int) * p1 + sq_sh m g 1)) % 2147483647 = c % 2147483647 → s = 3) →
      post s (1, nI m, s, 0, sq_f c, 2, a1, a2, a3, a4, b, b', b7, b8)) :
    wpX_start post (1, nI m, st, gi, ru, ts, a1, a2, a3, a4, a5, a6, a7, a8) (sq_f c) := by
  unfold wpX_start
  refine sq_element (br_f (by decide) (nm_r (e' := 2) (by decide) ⟨3, ?_⟩))
  refine br_f (by decide) (sq_value0 (f := 0) (by decide) hp0 hn0 h30 h10 h20 ⟨vp_in_nI (n := 0) (by decide) (by decide), nm_e ?_⟩)
  refine sq_value0 (f := 1) (by decide) hp1 hn1 h31 h16 h26 ⟨vp_in_nI (n := 0) (by decide) (by decide), nm_e (nm_e ?_)⟩
  refine br_f (by decide) (sq_value1 (f := 0) (by decide) hp0 hn0 h30 h10 h20 ⟨vp_in_nI (n := 1) (by decide) (by decide), nm_e ?_⟩)
  refine sq_value1 (f := 1) (by decide) hp1 hn1 h31 h16 h26 ⟨vp_in_nI (n := 1) (by decide) (by decide), nm_e (nm_e ?_)⟩
  refine br_t (by decide) ?_
  have e70 : (upd (upd a7 0 (nI n0)) 1 (nI p0)) 0 = sq_f n0 := sq_nf (by omega)
  have e71 : (upd (upd a7 0 (nI n0)) 1 (nI p0)) 1 = sq_f p0 := sq_nf (by omega)
  have e80 : (upd (upd a8 0 (nI n1)) 1 (nI p1)) 0 = sq_f n1 := sq_nf (by omega)
  have e81 : (upd (upd a8 0 (nI n1)) 1 (nI p1)) 1 = sq_f p1 := sq_nf (by omega)
  exact sq_send hm e70 e71 e80 e81 hg (fun s b b' k0 k1 k2 k3 k4 => H s b b' _ _ k0 k1 k2 e70 e71 e80 e81 k3 k4)
/-! ===== the challenge ===== -/
theorem sq_between {post : Int32 → Prop} {s0 s1 s2 r : Int} (h0 : a5 0 = sq_f s0) (h1 : a5 1 = sq_f s1) (h2 : a5 2 = sq_f s2)
    (h : post (sq_f (s0 + (s1 - s0) * r + r * (r - 1) * 1073741824 * (s0 + s2 - (s1 + s1))))) :
    wpX_between post (va, ma, st, gi, ru, ts, a1, a2, a3, a4, a5, a6, a7, a8) (sq_f r) := by
  unfold wpX_between
  dsimp only
  rw [h0, h1, h2]
  exact sq_blend (sq_plus (sq_plus (sq_minus (sq_minus (y := 1) (sq_times (sq_times (y := 1073741824) (sq_times (sq_plus h))))))))
theorem sq_fold {post : St2 → Prop} {x0 x1 y0 y1 r : Int} (h70 : a7 0 = sq_f x0) (h71 : a7 1 = sq_f x1) (h80 : a8 0 = sq_f y0) (h81 : a8 1 = sq_f y1)
    (h : post (va, ma, st, gi, ru, 1, a1, a2, a3, a4, a5, a6, upd a7 0 (sq_f (x0 + (x1 - x0) * r)), upd a8 0 (sq_f (y0 + (y1 - y0) * r)))) :
    wpX_fold post (va, ma, st, gi, ru, 2, a1, a2, a3, a4, a5, a6, a7, a8) (sq_f r) := by
  have c0 : ((2 : Int32) * 0).toNatClampNeg = 0 := by decide
  have c1 : ((2 : Int32) * 0 + 1).toNatClampNeg = 1 := by decide
  have i0 : vp_in ((2 : Int32) * 0) 32 := vp_in_nI (n := 0) (by decide) (by decide)
  have i1 : vp_in ((2 : Int32) * 0 + 1) 32 := vp_in_nI (n := 1) (by decide) (by decide)
  have j0 : vp_in (0 : Int32) 32 := vp_in_nI (n := 0) (by decide) (by decide)
  refine nm_r (e' := 1) (by decide) ⟨2, br_f (by decide) ⟨i0, i1, ?_⟩⟩
  rw [c0, c1, h70, h71, h80, h81]
  exact sq_blend ⟨j0, nm_e ⟨i0, i1, sq_blend ⟨j0, nm_e (nm_e (br_t (by decide) h))⟩⟩⟩
theorem sq_challenge {post : Int32 → St2 → Prop} {x0 x1 y0 y1 s0 s1 s2 r w : Int}
    (h0 : a5 0 = sq_f s0) (h1 : a5 1 = sq_f s1) (h2 : a5 2 = sq_f s2) (h70 : a7 0 = sq_f x0) (h71 : a7 1 = sq_f x1) (h80 : a8 0 = sq_f y0) (h81 : a8 1 = sq_f y1)
    (hw : w = s0 + (s1 - s0) * r + r * (r - 1) * 1073741824 * (s0 + s2 - (s1 + s1)))
    (H : ∀ (s : Int32) (b7 b8 : Nat → Int32), b7 0 = sq_f (x0 + (x1 - x0) * r) → b8 0 = sq_f (y0 + (y1 - y0) * r) →
      (w % 2147483647 = ((x0 + (x1 - x0) * r) * (y0 + (y1 - y0) * r)) % 2147483647 → s = 2) →
      (¬ w % 2147483647 = ((x0 + (x1 - x0) * r) * (y0 + (y1 - y0) * r)) % 2147483647 → s = 3) →
      post s (1, ma, s, 1, sq_f w, 1, a1, a2, a3, upd a4 0 (sq_f r), a5, a6, b7, b8)) :
    wpX_challenge post (1, ma, 1, 0, ru, 2, a1, a2, a3, a4, a5, a6, a7, a8) (sq_f r) := by
  unfold wpX_challenge
  refine br_t rfl (sq_element (br_f (by decide) (sq_between h0 h1 h2 ⟨vp_in_nI (n := 0) (by decide) (by decide), nm_e (nm_r (e' := 1) (by decide) ?_)⟩)))
  rw [← hw]
  refine sq_fold h70 h71 h80 h81 (br_t (by decide) ?_)
  refine sq_times (x := x0 + (x1 - x0) * r) (y := y0 + (y1 - y0) * r) (br_c (fun e => ?_) (fun e => ?_))
  · rw [sq_fi] at e
    exact H 2 _ _ rfl rfl (fun _ => rfl) (fun ne => absurd e ne)
  · rw [sq_fi] at e
    exact H 3 _ _ rfl rfl (fun ee => absurd ee e) (fun _ => rfl)
end
end
section
/-! ===== the plain law: what the component computes is what the law expects ===== -/
/-- what the manner's shift comes to at r -/
def sq_e (m : Nat) (g r : Int) : Int := if m = 1 then g * 1073741824 else if m = 2 then g * (1 - r) else 0
theorem sq_ring (a0 a1 b0 b1 r : Int) :
    a0 * b0 + (a1 * b1 - a0 * b0) * r + r * (r - 1) * 1073741824 * (a0 * b0 + (a1 + a1 - a0) * (b1 + b1 - b0) - (a1 * b1 + a1 * b1))
      = (a0 * (1 - r) + a1 * r) * (b0 * (1 - r) + b1 * r) + 2147483647 * (r * (r - 1) * ((a1 - a0) * (b1 - b0))) := by grind
theorem sq_ring1 (h0 h1 h2 r s : Int) :
    h0 + s + (h1 + s - (h0 + s)) * r + r * (r - 1) * 1073741824 * (h0 + s + (h2 + s) - (h1 + s + (h1 + s)))
      = h0 + (h1 - h0) * r + r * (r - 1) * 1073741824 * (h0 + h2 - (h1 + h1)) + s := by grind
theorem sq_ring2 (h0 h1 h2 r g : Int) :
    h0 + g * (1 - 0) + (h1 + g * (1 - 1) - (h0 + g * (1 - 0))) * r + r * (r - 1) * 1073741824 * (h0 + g * (1 - 0) + (h2 + g * (1 - 2)) - (h1 + g * (1 - 1) + (h1 + g * (1 - 1))))
      = h0 + (h1 - h0) * r + r * (r - 1) * 1073741824 * (h0 + h2 - (h1 + h1)) + g * (1 - r) := by grind
theorem sq_poly {m : Nat} (hm : m < 3) (h0 h1 h2 r g : Int) :
    h0 + sq_sh m g 0 + (h1 + sq_sh m g 1 - (h0 + sq_sh m g 0)) * r + r * (r - 1) * 1073741824 * (h0 + sq_sh m g 0 + (h2 + sq_sh m g 2) - (h1 + sq_sh m g 1 + (h1 + sq_sh m g 1)))
      = h0 + (h1 - h0) * r + r * (r - 1) * 1073741824 * (h0 + h2 - (h1 + h1)) + sq_e m g r := by
  rcases (by omega : m = 0 ∨ m = 1 ∨ m = 2) with rfl | rfl | rfl
  · exact sq_ring1 h0 h1 h2 r 0
  · exact sq_ring1 h0 h1 h2 r (g * 1073741824)
  · exact sq_ring2 h0 h1 h2 r g
/-- the running value after the challenge -/
theorem sq_run {m : Nat} (hm : m < 3) (a0 a1 b0 b1 r g : Int) :
    (a0 * b0 + sq_sh m g 0 + (a1 * b1 + sq_sh m g 1 - (a0 * b0 + sq_sh m g 0)) * r + r * (r - 1) * 1073741824 * (a0 * b0 + sq_sh m g 0 + ((a1 + a1 - a0) * (b1 + b1 - b0) + sq_sh m g 2) - (a1 * b1 + sq_sh m g 1 + (a1 * b1 + sq_sh m g 1)))) % 2147483647
      = ((a0 * (1 - r) + a1 * r) * (b0 * (1 - r) + b1 * r) + sq_e m g r) % 2147483647 := by
  rw [sq_poly hm, sq_ring]
  generalize (a0 * (1 - r) + a1 * r) * (b0 * (1 - r) + b1 * r) = x
  generalize r * (r - 1) * ((a1 - a0) * (b1 - b0)) = y
  generalize sq_e m g r = z
  omega
/-- the verifier's check of the first message: FLAT and STEEP always pass it -/
theorem sq_chk {m : Nat} (hm : m < 3) (hm0 : ¬ m = 0) {x y c g : Int} (hg : g = c - (x + y)) : (x + sq_sh m g 0 + (y + sq_sh m g 1)) % 2147483647 = c % 2147483647 := by
  rcases (by omega : m = 1 ∨ m = 2) with rfl | rfl
  · show (x + g * 1073741824 + (y + g * 1073741824)) % 2147483647 = c % 2147483647
    omega
  · show (x + g * (1 - 0) + (y + g * (1 - 1))) % 2147483647 = c % 2147483647
    omega
/-- HONEST passes it where there is no gap, and there alone -/
theorem sq_chk0 {x y c g : Int} (hg : g = c - (x + y)) : (x + sq_sh 0 g 0 + (y + sq_sh 0 g 1)) % 2147483647 = c % 2147483647 ↔ g % 2147483647 = 0 := by
  show (x + 0 + (y + 0)) % 2147483647 = c % 2147483647 ↔ _
  omega
theorem sq_mask (x : Int32) : ∃ n : Nat, n < 2147483647 ∧ x &&& 2147483646 = nI n :=
  ⟨(x &&& 2147483646).toBitVec.toNat, by
    rw [Int32.toBitVec_and, BitVec.toNat_and]
    exact Nat.lt_of_le_of_lt Nat.and_le_right (by decide), Int32.toBitVec_inj.mp (by show _ = BitVec.ofNat 32 _; simp)⟩
theorem sq_how (x : Int32) : ∃ m : Nat, m < 3 ∧ (x &&& 65535) - (x &&& 65535) / 3 * 3 = nI m := by
  obtain ⟨j, hj, e⟩ := pk_andE x (m := 65535) 16 (by decide)
  refine ⟨j % 3, by omega, ?_⟩
  rw [e]
  exact pk_rem (d := 3) (by omega) (by decide) (by decide)
theorem sq_bit (x : Int32) : ∃ n : Nat, n < 2 ∧ x &&& 1 = nI n := by
  obtain ⟨j, hj, e⟩ := pk_andE x (m := 1) 1 (by decide)
  exact ⟨j, by omega, e⟩
end
section
theorem sq_V1 : sq_V (1 : Int64) 1 0 1 := by unfold sq_V; decide
theorem sq_Vb {n : Nat} (h : n < 2) : sq_V (nI n).toInt64 n 0 1 := by
  rw [nI_l (by omega)]
  exact sq_Vn (m := 1) (by omega) (by decide)
theorem sq_Vf (z : Int) : sq_V (sq_f z).toInt64 z 0 2147483646 := by
  rw [sq_fl]; exact sq_Vl z
/-- the law's own arithmetic -/
theorem sq_flds {Q : Int64 → Int64 → Int64 → Int64 → Prop} {n0 p0 n1 p1 : Nat} {c r : Int} (hn0 : n0 < 2) (hp0 : p0 < 2) (hn1 : n1 < 2) (hp1 : p1 < 2)
    (h : Q (sq_l ((n0 : Int) * (1 - r) + (p0 : Int) * r)) (sq_l ((n1 : Int) * (1 - r) + (p1 : Int) * r)) (sq_l (((n0 : Int) * (1 - r) + (p0 : Int) * r) * ((n1 : Int) * (1 - r) + (p1 : Int) * r))) (sq_l (c - (n0 : Int) * n1 - (p0 : Int) * p1))) :
    wpL_field (fun r_202 => wpL_field (fun r_203 => wpL_field (fun r_204 => wpL_field (fun r_205 => wpL_field (fun r_206 => wpL_field (fun r_207 => Q r_203 r_205 r_206 r_207)
      () (((sq_f c).toInt64 - ((nI n0).toInt64 * (nI n1).toInt64)) - ((nI p0).toInt64 * (nI p1).toInt64)))
      () (r_203 * r_205)) () (((nI n1).toInt64 * r_204) + ((nI p1).toInt64 * (sq_f r).toInt64)))
      () (1 - (sq_f r).toInt64)) () (((nI n0).toInt64 * r_202) + ((nI p0).toInt64 * (sq_f r).toInt64))) () (1 - (sq_f r).toInt64) := by
  have v1 := sq_Vsub sq_V1 (sq_Vf r) (by decide) (by decide)
  refine sq_field v1 ?_
  refine sq_field (sq_Vadd (sq_Vmul (sq_Vb hn0) (sq_Vl _) (by decide)) (sq_Vmul (sq_Vb hp0) (sq_Vf r) (by decide)) (by decide) (by decide)) ?_
  refine sq_field v1 ?_
  refine sq_field (sq_Vadd (sq_Vmul (sq_Vb hn1) (sq_Vl _) (by decide)) (sq_Vmul (sq_Vb hp1) (sq_Vf r) (by decide)) (by decide) (by decide)) ?_
  refine sq_field (sq_Vmul (sq_Vl _) (sq_Vl _) (by decide)) ?_
  exact sq_field (sq_Vsub (sq_Vsub (sq_Vf c) (sq_Vmul (sq_Vb hn0) (sq_Vb hn1) (by decide)) (by decide) (by decide)) (sq_Vmul (sq_Vb hp0) (sq_Vb hp1) (by decide)) (by decide) (by decide)) h
section
variable {post : Int32 → St0 → Prop} {mc ms kc ks : Nat} {ma s ru ts : Int32} {a1 a2 a3 a4 a5 a6 a7 a8 : Nat → Int32}
theorem sq_ext0 {post : Int32 → Prop} (hs : ¬ s = 0) (h : post (a7 0)) : wpX_extension post (1, ma, s, 1, ru, ts, a1, a2, a3, a4, a5, a6, a7, a8) 0 := by
  unfold wpX_extension
  exact sq_isF (f := 0) (by decide) (br_f (by decide) (br_f hs (br_t (by decide) (br_t rfl h))))
theorem sq_ext1 {post : Int32 → Prop} (hs : ¬ s = 0) (h : post (a8 0)) : wpX_extension post (1, ma, s, 1, ru, ts, a1, a2, a3, a4, a5, a6, a7, a8) 1 := by
  unfold wpX_extension
  exact sq_isF (f := 1) (by decide) (br_f (by decide) (br_f hs (br_t (by decide) (br_f (by decide) h))))
theorem sq_extN {post : Int32 → Prop} (hs : ¬ s = 0) (h : post (-1)) : wpX_extension post (1, ma, s, 0, ru, ts, a1, a2, a3, a4, a5, a6, a7, a8) 0 := by
  unfold wpX_extension
  exact sq_isF (f := 0) (by decide) (br_f (by decide) (br_f hs (br_f (by decide) h)))
theorem sq_326 {x7 : Int32} {x18 x20 x28 : Int64} (hs : ¬ s = 0) (hr : ru.toInt64 = x28) (h7 : (a7 0).toInt64 = x18) (h8 : (a8 0).toInt64 = x20) (h4 : a4 0 = x7) (h : post 1 ()) :
    wL_lawOf_326 post mc ms x7 s x18 x20 x28 s s kc ks 1 ma s 1 ru ts a1 a2 a3 a4 a5 a6 a7 a8 := by
  unfold wL_lawOf_326
  refine br_t rfl (br_f hs (br_t hr ?_))
  refine sq_ext0 hs (br_t h7 ?_)
  refine sq_ext1 hs (br_t h8 ?_)
  refine br_f (by decide) (br_t (by decide) ⟨vp_in_nI (n := 0) (by decide) (by decide), br_t h4 ?_⟩)
  exact br_t rfl (br_t rfl h)
theorem sq_294 {x7 : Int32} {x18 x20 : Int64} {w y e : Int} (hw : w % 2147483647 = (y + e) % 2147483647) (h2 : e % 2147483647 = 0 → s = 2) (h3 : ¬ e % 2147483647 = 0 → s = 3)
    (h7 : (a7 0).toInt64 = x18) (h8 : (a8 0).toInt64 = x20) (h4 : a4 0 = x7) (h : post 1 ()) :
    wL_lawOf_294 post mc ms x7 1 s x18 x20 (sq_l y) (sq_l e) kc ks 1 ma s 1 (sq_f w) ts a1 a2 a3 a4 a5 a6 a7 a8 := by
  unfold wL_lawOf_294
  refine sq_field (sq_Vadd (sq_Vl y) (sq_Vl e) (by decide) (by decide)) (br_t rfl (br_c (fun z => ?_) (fun z => ?_)))
  · rw [sq_l0] at z
    have es := h2 z
    subst es
    exact sq_326 (by decide) (by rw [sq_fl]; exact sq_le hw) h7 h8 h4 h
  · rw [sq_l0] at z
    have es := h3 z
    subst es
    exact sq_326 (by decide) (by rw [sq_fl]; exact sq_le hw) h7 h8 h4 h
theorem sq_252 {x18 x20 : Int64} {m : Nat} {r w y g : Int} (hm : m < 3) (hw : w % 2147483647 = (y + sq_e m g r) % 2147483647) (h2 : sq_e m g r % 2147483647 = 0 → s = 2) (h3 : ¬ sq_e m g r % 2147483647 = 0 → s = 3)
    (h7 : (a7 0).toInt64 = x18) (h8 : (a8 0).toInt64 = x20) (h4 : a4 0 = sq_f r) (h : post 1 ()) :
    wL_lawOf_252 post mc ms (nI m) (sq_f r) 1 s x18 x20 (sq_l y) (sq_l g) kc ks 1 ma s 1 (sq_f w) ts a1 a2 a3 a4 a5 a6 a7 a8 := by
  unfold wL_lawOf_252
  have key := sq_294 (mc := mc) (ms := ms) (kc := kc) (ks := ks) (ma := ma) (ts := ts) (a1 := a1) (a2 := a2) (a3 := a3) (a5 := a5) (a6 := a6) hw h2 h3 h7 h8 h4 h
  rcases (by omega : m = 0 ∨ m = 1 ∨ m = 2) with rfl | rfl | rfl
  · exact br_f (by decide) (br_f (by decide) key)
  · exact br_t (by decide) (sq_field (sq_Vmul (y := 1073741824) (d := 1073741824) (sq_Vl g) (by unfold sq_V; decide) (by decide)) key)
  · refine br_f (by decide) (br_t (by decide) (sq_field (sq_Vsub sq_V1 (sq_Vf r) (by decide) (by decide)) ?_))
    exact sq_field (sq_Vmul (sq_Vl g) (sq_Vl (1 - r)) (by decide)) key
end
theorem sq_init {post : St2 → Prop} (h : post (1, 0, 0, 0, 0, 0, (fun _ => 0), (fun _ => 0), (fun _ => 0), (fun _ => 0), (fun _ => 0), (fun _ => 0), (fun _ => 0), (fun _ => 0))) : wpX_init post 8 101 (0, 0, 0, 0, 0, 0) 1 :=
  ⟨by decide, by decide, by decide, by decide, by decide, by decide, by decide, by decide, by decide, by decide, by decide, by decide, by decide, by decide, by decide, by decide, br_t (by decide) (br_t (by decide) h)⟩
theorem sq_law (p0 p1 p2 p3 : Int32) : wpL_lawOf (fun r _ => r = 1) 70 1104 () p0 p1 p2 p3 := by
  obtain ⟨A1, hA1, eA1⟩ := sq_bit p0
  obtain ⟨A0, hA0, eA0⟩ := sq_bit (p0 >>> ((1 : Int32) &&& 31))
  obtain ⟨B1, hB1, eB1⟩ := sq_bit (p0 >>> ((2 : Int32) &&& 31))
  obtain ⟨B0, hB0, eB0⟩ := sq_bit (p0 >>> ((3 : Int32) &&& 31))
  obtain ⟨m, hm, em⟩ := sq_how p3
  obtain ⟨C, hC, eC⟩ := sq_mask p1
  obtain ⟨R, hR, eR⟩ := sq_mask p2
  rw [sq_nf hC] at eC
  rw [sq_nf hR] at eR
  have hE : ∀ a b r : Int, a + (b - a) * r = a * (1 - r) + b * r := by intro a b r; grind
  have hG : (C : Int) - (A0 : Int) * B0 - (A1 : Int) * B1 = C - ((A0 : Int) * B0 + (A1 : Int) * B1) := by omega
  unfold wpL_lawOf
  rw [eA1, eA0, eB1, eB0]
  refine ⟨by decide, by decide, 8, 101, by decide, by decide, sq_init ⟨by decide, nm_r em ?_⟩⟩
  refine sq_clause (f := 0) (by decide) hA1 hA0 rfl ?_
  refine sq_clause (f := 1) (by decide) hB1 hB0 rfl ?_
  refine sq_manner hm (nm_r eC (nm_r eR ?_))
  refine sq_start hm hA1 hA0 hB1 hB0 rfl rfl rfl rfl rfl rfl rfl ?_
  intro s b b' b7 b8 k0 k1 k2 k70 k71 k80 k81 ks1 ks3
  generalize hg : (C : Int) - ((A0 : Int) * B0 + (A1 : Int) * B1) = g at k0 k1 k2 ks1 ks3 hG
  have go : (m = 0 → g % 2147483647 = 0) → s = 1 := by
    intro hz
    apply ks1
    by_cases h0 : m = 0
    · subst h0
      exact (sq_chk0 hg.symm).mpr (hz rfl)
    · exact sq_chk hm h0 hg.symm
  by_cases hz : m = 0 ∧ ¬ g % 2147483647 = 0
  · obtain ⟨h0, hz⟩ := hz
    subst h0
    have es : s = 3 := ks3 (fun z => hz ((sq_chk0 hg.symm).mp z))
    subst es
    refine br_f (by decide) (nm_e (nm_e (nm_e (nm_e ?_))))
    refine sq_flds hA0 hA1 hB0 hB1 ?_
    rw [hG]
    refine br_t rfl (br_f (fun z => hz (sq_l0.mp z)) (br_t rfl (br_t rfl (br_t rfl ?_))))
    exact sq_extN (by decide) (br_t rfl (br_f (by decide) (br_t rfl rfl)))
  · have hz' : m = 0 → g % 2147483647 = 0 := fun h0 => Decidable.by_contra (fun n => hz ⟨h0, n⟩)
    have es := go hz'
    subst es
    refine sq_challenge k0 k1 k2 k70 k71 k80 k81 rfl ?_
    intro s c7 c8 j7 j8 js2 js3
    have hw := sq_run hm (A0 : Int) A1 B0 B1 R g
    rw [hE] at j7 j8
    rw [hE (A0 : Int) A1 R, hE (B0 : Int) B1 R, hw] at js2 js3
    refine nm_e (nm_e (nm_e (nm_e ?_)))
    refine sq_flds hA0 hA1 hB0 hB1 ?_
    rw [hG]
    have q7 : (c7 0).toInt64 = sq_l ((A0 : Int) * (1 - R) + (A1 : Int) * R) := by rw [j7, sq_fl]
    have q8 : (c8 0).toInt64 = sq_l ((B0 : Int) * (1 - R) + (B1 : Int) * R) := by rw [j8, sq_fl]
    generalize ((A0 : Int) * (1 - R) + (A1 : Int) * R) * ((B0 : Int) * (1 - R) + (B1 : Int) * R) = y at js2 js3 hw
    have r2 : sq_e m g R % 2147483647 = 0 → s = 2 := fun z => js2 (by omega)
    have r3 : ¬ sq_e m g R % 2147483647 = 0 → s = 3 := fun z => js3 (by omega)
    refine br_c (fun h0 => br_t (sq_l0.mpr (hz' ?_)) ?_) (fun _ => ?_)
    · exact (nI_eq (b := 0) (by omega) (by decide)).mp h0
    · exact sq_252 hm hw r2 r3 q7 q8 rfl rfl
    · exact sq_252 hm hw r2 r3 q7 q8 rfl rfl
theorem sq_cell {post : Int32 → Prop} {L k : Nat} {xs : Nat → Int32} (hL : L ≤ 4) (hk : k < 4) (h : ∀ x, post x) : wpL_cellAt post L xs () (nI k) := by
  refine br_c (fun _ => h 0) (fun hn => ⟨vp_in_nI ?_ (by omega), h _⟩)
  have hn' : ¬ nI L ≤ nI k := hn
  rw [nI_leI (by omega) (by omega)] at hn'
  omega
theorem i_vc (xs : Nat → Int32) (L : Nat) (hL : L ≤ 4) : wpL_law (fun r => r = 1) L xs :=
  sq_cell (k := 0) hL (by decide) (fun r1 => sq_cell (k := 1) hL (by decide) (fun r2 => sq_cell (k := 2) hL (by decide) (fun r3 => sq_cell (k := 3) hL (by decide) (fun r4 =>
    ⟨70, 1104, by decide, by decide, sq_law r1 r2 r3 r4⟩))))
end
