/-! the digit of a long division -/
set_option maxRecDepth 100000
set_option linter.unusedVariables false
def sh (f : Int → Int) (j : Int) : Int → Int := fun i => f (j + i)
theorem dv_sh {f : Int → Int} {j n : Nat} : dv f (j + n) = dv f j + dv (sh f j) n * 1000000000 ^ j := by
  induction n with
  | zero => simp [dv]
  | succ n ih =>
    rw [show j + (n + 1) = (j + n) + 1 by omega]
    simp only [dv]
    rw [ih, pw_add]
    simp only [sh]
    rw [show ((j + n : Nat) : Int) = (j : Int) + n by omega]
    grind
theorem dv_head {f : Int → Int} {n : Nat} : dv f (n + 1) = f 0 + 1000000000 * dv (sh f 1) n := by
  have h := dv_sh (f := f) (j := 1) (n := n)
  rw [show 1 + n = n + 1 by omega] at h
  rw [h]
  simp only [dv, Int.pow_succ]
  simp
  omega
theorem sh_sh {f : Int → Int} {a b : Int} : sh (sh f a) b = sh f (a + b) := by funext i; simp [sh, Int.add_assoc]
theorem dok_sh {f : Int → Int} {j n m : Nat} (h : dok f n) (hm : j + m ≤ n) : dok (sh f j) m := fun i h0 h1 => h (j + i) (by omega) (by omega)
section KN
variable {U V v1 v2 top u2 q g w z : Int} {c : Nat}
theorem kn_lo {p : Int} (hp : 0 < p) (hU : U < (top + 1) * p) (hV : v1 * p ≤ V) (hq0 : 0 ≤ q) (hq : q * V ≤ U) : q * v1 ≤ top := by
  have h1 : q * (v1 * p) ≤ q * V := Int.mul_le_mul_of_nonneg_left hV hq0
  have h2 : (q * v1) * p < (top + 1) * p := by rw [Int.mul_assoc]; omega
  have h3 := Int.lt_of_mul_lt_mul_right h2 (by omega)
  omega
theorem kn_hi {p r : Int} (hp : 0 < p) (hr : 0 ≤ r) (hrp : r < p) (hV : V = w * p + r) (hU : z * p ≤ U) (hg0 : 0 ≤ g) (hgB : g ≤ 1000000000) (hgw : g * w ≤ z) (hw : 1000000000 ≤ w) : (g - 1) * V ≤ U := by
  have h1 : g * w * p ≤ z * p := Int.mul_le_mul_of_nonneg_right hgw (by omega)
  have h2 : g * r ≤ 1000000000 * p := Int.mul_le_mul hgB (by omega) hr (by decide)
  have h3 : 1000000000 * p ≤ w * p := Int.mul_le_mul_of_nonneg_right hw (by omega)
  have h4 : (g - 1) * V = g * w * p + g * r - (w * p + r) := by rw [hV]; grind
  omega
end KN
