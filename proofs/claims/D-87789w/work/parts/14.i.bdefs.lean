set_option maxRecDepth 100000
/-! WHAT lists, strings and faults do to the memory -/
def lgrow (n : Int) : Int := if n = 0 then 10 else n + zmax 1 (i_shr n 1)
def madd (μ : MEM) (x v : Int) : MEM := fun y j => if y = x then (if j = -2 then μ x (-2) + 1 else if j = -3 then lgrow (μ x (-3)) else if j = -4 then μ 0 0 else if j = μ x (-2) then v else μ x j) else if y = μ 0 0 then (if j = -1 then 41 else if j = -5 then x else 0) else if y = 0 then (if j = 0 then μ 0 0 + 1 else if j = 1 then μ 0 1 - 1 else if j = 2 then μ 0 2 - lgrow (μ x (-3)) else μ 0 j) else μ y j
def b_ladd (μ : MEM) (x v : Int) : Option zc_O := ck (μ x (-1) = 40) (ck (v = 0 ∨ zt zc_vt (μ v (-1)) = true) (if μ x (-2) < μ x (-3) then some (0, 1, mup (mup μ x (μ x (-2)) v) x (-2) (μ x (-2) + 1)) else ck ((0 < μ x (-3) ∨ μ x (-4) = -51) ∧ μ x (-3) ≤ 500000 ∧ 1 ≤ μ 0 1 ∧ lgrow (μ x (-3)) ≤ μ 0 2) (some (0, 1, madd μ x v))))
def b_lget (μ : MEM) (x i : Int) : Option zc_O := ck (μ x (-1) = 40) (ck (0 ≤ i ∧ i < μ x (-2)) (some (0, μ x i, μ)))
def b_lsize (μ : MEM) (x : Int) : Option zc_O := ck (μ x (-1) = 40) (some (0, μ x (-2), μ))
def b_lclear (μ : MEM) (x : Int) : Option zc_O := ck (μ x (-1) = 40) (ck (μ x (-2) < 90000) (some (0, 0, mup μ x (-2) 0)))
def mlin (μ : MEM) (x : Int) : MEM := fun y j => if y = x then (if j = -1 then 40 else if j = -4 then -51 else 0) else μ y j
def b_linit (μ : MEM) (x : Int) : Option zc_O := ck (μ x (-1) = 21 ∧ μ x 2 = 0) (some (0, 0, mlin μ x))
def mlinN (μ : MEM) (x n : Int) : MEM := fun y j => if y = x then (if j = -1 then 40 else if j = -3 then n else if j = -4 then μ 0 0 else 0) else if y = μ 0 0 then (if j = -1 then 41 else if j = -5 then x else 0) else if y = 0 then (if j = 0 then μ 0 0 + 1 else if j = 1 then μ 0 1 - 1 else if j = 2 then μ 0 2 - n else μ 0 j) else μ y j
def b_linitN (μ : MEM) (x n : Int) : Option zc_O := ck (μ x (-1) = 21 ∧ μ x 2 = 0) (ck (1 ≤ n ∧ n ≤ 1000) (ck (1 ≤ μ 0 1 ∧ n ≤ μ 0 2) (some (0, 0, mlinN μ x n))))
def b_slen (μ : MEM) (w : Int) : Option zc_O := ck ((-43 : Int) ≤ w ∧ w < 0) (some (0, zs_len w, μ))
def b_schr (μ : MEM) (w i : Int) : Option zc_O := ck ((-43 : Int) ≤ w ∧ w < 0) (ck (0 ≤ i ∧ i < zs_len w) (some (0, zs_chr w i, μ)))
def b_finit (μ : MEM) (x a b : Int) : Option zc_O := ck (μ x (-1) = 22 ∧ μ x 6 = 0 ∧ μ x 7 = 0) (some (0, 0, mup (mup (mup μ x (-1) 7) x 6 a) x 7 b))
