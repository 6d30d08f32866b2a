/-! LAWS: bounded numbers, inches, forms and codes (own work) -/
set_option maxRecDepth 100000
def bd_ (v a b : Int32) : Int32 := if a ≤ v then if v ≤ b then v else b else a
theorem X4_bounded_l {v a b : Int32} : X4_bounded v a b = some (bd_ v a b) := by
  unfold X4_bounded bd_
  split
  · split <;> rfl
  · rfl
theorem X1_kept_l {v a b : Int32} (h : a ≤ b) : X1_kept v a b = some (bd_ v a b) := by
  unfold X1_kept jmax_ jmin_ bd_
  rw [Option.some.injEq, i_eq]
  rw [i_le] at h
  simp only [i_le, i_lt]
  split <;> split <;> split <;> (try split) <;> first | rfl | omega
theorem bd_rg {v a b : Int32} (h : a.toInt ≤ b.toInt) : a.toInt ≤ (bd_ v a b).toInt ∧ (bd_ v a b).toInt ≤ b.toInt := by
  unfold bd_
  simp only [i_le]
  split
  · split <;> omega
  · omega
theorem bd_in {v a b : Int32} (h1 : a ≤ v) (h2 : v ≤ b) : bd_ v a b = v := by
  unfold bd_
  rw [if_pos h1, if_pos h2]
theorem k_0 : ((0 : Int32)).toInt = 0 := by decide
theorem k_1 : ((1 : Int32)).toInt = 1 := by decide
theorem k_12 : ((12 : Int32)).toInt = 12 := by decide
theorem k_480 : ((480 : Int32)).toInt = 480 := by decide
theorem k_999 : ((999 : Int32)).toInt = 999 := by decide
theorem k_600 : ((600 : Int32)).toInt = 600 := by decide
theorem k_100 : ((100 : Int32)).toInt = 100 := by decide
theorem k_4320 : ((4320 : Int32)).toInt = 4320 := by decide
theorem k_n1 : ((-1 : Int32)).toInt = -1 := by decide
theorem cl_0 : ((0 : Int32)).toNatClampNeg = 0 := rfl
theorem cl_1 : ((1 : Int32)).toNatClampNeg = 1 := rfl
theorem cl_2 : ((2 : Int32)).toNatClampNeg = 2 := rfl
theorem cl_3 : ((3 : Int32)).toNatClampNeg = 3 := rfl
theorem cl_4 : ((4 : Int32)).toNatClampNeg = 4 := rfl
theorem cl_5 : ((5 : Int32)).toNatClampNeg = 5 := rfl
theorem cl_6 : ((6 : Int32)).toNatClampNeg = 6 := rfl
theorem cl_7 : ((7 : Int32)).toNatClampNeg = 7 := rfl
/-! inches -/
def lt_ (late t : Int32) : Int32 := if late ≤ t then t - late else 0
def ic_ (G L : Nat → Int32) (n : Nat) (f b late t who : Int32) : Int32 :=
  if who = 0 then hr_ G L n 0 f (lt_ late t) else if hr_ G L n 0 f (lt_ late t) + b ≤ 480 then hr_ G L n 0 f (lt_ late t) + b else 480
theorem lt_rg {late t : Int32} (hl : 0 ≤ late.toInt ∧ late.toInt ≤ 1000) (ht : -1000 ≤ t.toInt ∧ t.toInt ≤ 1000) : 0 ≤ (lt_ late t).toInt ∧ jmax_ 0 (t - late) = lt_ late t := by
  have e : (t - late).toInt = t.toInt - late.toInt := i_sub (by omega) (by omega)
  unfold lt_ jmax_
  by_cases h : late ≤ t
  · have h' := h
    rw [i_le] at h'
    rw [if_pos h]
    refine ⟨by omega, ?_⟩
    rw [i_eq]
    by_cases h2 : (0 : Int32) < t - late
    · rw [if_pos h2]
    · rw [if_neg h2]
      rw [i_lt, k_0] at h2
      rw [k_0]
      omega
  · have h' := h
    rw [i_le] at h'
    rw [if_neg h, if_neg (by rw [i_lt, e, k_0]; omega)]
    exact ⟨by rw [k_0]; omega, rfl⟩
theorem X4_inchesOf_l {σ : MS} {n : Nat} (hn : m_I σ 2 = nI n) (hn12 : n ≤ 12) (hN : mvN (m_A σ 8) (m_A σ 9) n) (hf : 12 ≤ (m_I σ 1).toInt ∧ (m_I σ 1).toInt ≤ 480) (hl : 0 ≤ (m_I σ 59).toInt ∧ (m_I σ 59).toInt ≤ 1000) {t who : Int32} (ht : -1000 ≤ t.toInt ∧ t.toInt ≤ 1000) :
    X4_inchesOf t who σ = some (ic_ (m_A σ 8) (m_A σ 9) n (m_I σ 1) (m_A σ 53 4) (m_I σ 59) t who) := by
  have h0 := (lt_rg hl ht).1
  have key : X4_inchesOf_j19 who (lt_ (m_I σ 59) t) σ = some (ic_ (m_A σ 8) (m_A σ 9) n (m_I σ 1) (m_A σ 53 4) (m_I σ 59) t who) := by
    unfold X4_inchesOf_j19 ic_
    rw [X4_herIn_l hn hn12 hN hf h0, e_ob]
    by_cases hw : who = 0
    · rw [if_pos hw, if_pos hw]
    · rw [if_neg hw, if_neg hw, e_in (by decide), cl_4]
      split
      · rw [e_in (by decide)]
      · rfl
  unfold X4_inchesOf
  unfold lt_ at key
  split at key
  · rename_i h; rw [if_pos h]; exact key
  · rename_i h; rw [if_neg h]; exact key
theorem X11_inches_l {g : GS} {ρ : Nat → Nat} {r u a sc x n : Nat} {G L : Nat → Int32} (hu : gK g u = 10) (ha : gK g a = 1) (hsc : gK g sc = 2) (hx : gK g x = 3) (h7 : gR g u 7 = a + 1) (hs : gR g a 0 = sc + 1) (h0 : gR g u 0 = x + 1) (hp : PlP g ρ r sc 0 n G L) (hn12 : n ≤ 12) (hN : mvN G L n) (hl : 0 ≤ (gI g u 4).toInt ∧ (gI g u 4).toInt ≤ 1000) {t who : Int32} (ht : -1000 ≤ t.toInt ∧ t.toInt ≤ 1000) :
    X11_inches u t who g = some (ic_ G L n (gI g sc 5) (gI g x 5) (gI g u 4) t who) := by
  obtain ⟨h1, h2⟩ := lt_rg hl ht
  unfold X11_inches ic_
  rw [e_wk hu, h7, e_nn, e_wk ha, hs, e_nn, e_wk hsc, h2, X2_her_l hsc hp hn12 hN h1, e_ob]
  by_cases hw : who = 0
  · rw [if_pos hw, if_pos hw]
  · rw [if_neg hw, if_neg hw, h0, e_nn, e_wk hx]
    unfold jmin_
    rw [Option.some.injEq, i_eq]
    by_cases hlt : hr_ G L n 0 (gI g sc 5) (lt_ (gI g u 4) t) + gI g x 5 < 480
    · rw [if_pos hlt, if_pos]
      rw [i_lt] at hlt
      rw [i_le]
      omega
    · rw [if_neg hlt]
      rw [i_lt] at hlt
      split
      · rename_i h3
        rw [i_le] at h3
        omega
      · rfl
theorem ic_rg {G L : Nat → Int32} {n : Nat} {f b late t who : Int32} (hn12 : n ≤ 12) (hN : mvN G L n) (hf : 12 ≤ f.toInt ∧ f.toInt ≤ 480) (hb : 0 ≤ b.toInt ∧ b.toInt ≤ 1000) (hl : 0 ≤ late.toInt ∧ late.toInt ≤ 1000) (ht : -1000 ≤ t.toInt ∧ t.toInt ≤ 1000) : 12 ≤ (ic_ G L n f b late t who).toInt ∧ (ic_ G L n f b late t who).toInt ≤ 480 := by
  have h1 := hr_rg n 0 f (lt_ late t) (fun i _ h => hN i (by omega)) hf (lt_rg hl ht).1
  unfold ic_
  split
  · exact h1
  · have e : (hr_ G L n 0 f (lt_ late t) + b).toInt = (hr_ G L n 0 f (lt_ late t)).toInt + b.toInt := i_add (by omega) (by omega)
    split
    · rename_i h2
      rw [i_le, k_480] at h2
      omega
    · decide
/-! what he judges -/
def jd_ (S : Nat → Int32) (m : Nat) (x : Int32) : Int32 := if mk_ S m x = true then x else bd_ (x + (x * S 3) / 100) 12 480
theorem jd_rg {S : Nat → Int32} {m : Nat} {x : Int32} (hx : 12 ≤ x.toInt ∧ x.toInt ≤ 480) : 12 ≤ (jd_ S m x).toInt ∧ (jd_ S m x).toInt ≤ 480 := by
  unfold jd_
  split
  · exact hx
  · have h := bd_rg (v := x + (x * S 3) / 100) (a := 12) (b := 480) (by decide)
    rw [k_12, k_480] at h
    exact h
theorem X4_judged_l {σ : MS} {m : Nat} (hm : m_I σ 4 = nI m) (hm6 : m ≤ 6) (hS : ∀ i, i < m → 12 ≤ (m_A σ 53 (6 + i)).toInt ∧ (m_A σ 53 (6 + i)).toInt ≤ 480) {v : Int32} (hv : 0 ≤ v.toInt ∧ v.toInt ≤ 1000) : X4_judged v σ = some (jd_ (m_A σ 53) m v) := by
  unfold X4_judged jd_
  rw [X4_isByMark_l hm hm6 hS hv, e_ob]
  cases h : mk_ (m_A σ 53) m v with
  | true => rfl
  | false =>
    simp only [Bool.false_eq_true, if_false]
    rw [if_pos trivial, e_in (by decide), e_dv (by decide), X4_bounded_l, e_ob, cl_3]
theorem X11_judged_l {g : GS} {ρ : Nat → Nat} {r u x m : Nat} {S : Nat → Int32} (hu : gK g u = 10) (h0 : gR g u 0 = x + 1) (h : SetP g ρ r x m S) {v : Int32} : X11_judged u v g = some (jd_ S m v) := by
  have hx := h.1
  have h3 := h.2.2.2.1.2.2.2.1
  unfold X11_judged jd_
  rw [e_wk hu, h0, e_nn, e_wk hx, X3_isByMark_l h, e_ob]
  cases hb : mk_ S m v with
  | true => rfl
  | false =>
    simp only [Bool.false_eq_true, if_false]
    rw [if_pos trivial, e_nn, e_wk hx, e_dv (by decide), X1_kept_l (by decide), e_ob, h3]
/-! signs and codes -/
def okS (s : Int32) : Prop := s = 38 ∨ s = 124 ∨ s = 60 ∨ s = 61 ∨ s = 43 ∨ s = 45 ∨ s = 42 ∨ s = 47
def opc (s : Int32) : Int32 := if s = 38 then 4 else if s = 124 then 5 else if s = 60 then 6 else if s = 61 then 7 else if s = 43 then 8 else if s = 45 then 9 else if s = 42 then 10 else 11
theorem by_works {s a b : Int32} (h : okS s) : ∃ v, X7_by s a b = some v ∧ X4_works (opc s) a b = some v := by
  rcases h with rfl | rfl | rfl | rfl | rfl | rfl | rfl | rfl
  · refine ⟨if a = 0 then 0 else if b = 0 then 0 else 1, ?_, ?_⟩
    · unfold X7_by
      rw [if_pos rfl]
      split
      · rfl
      · split <;> rfl
    · show X4_works 4 a b = _
      unfold X4_works
      rw [if_pos rfl]
      split
      · rfl
      · split <;> rfl
  · refine ⟨if a = 0 then if b = 0 then 0 else 1 else 1, ?_, ?_⟩
    · unfold X7_by X7_by_j180
      simp only [show ((124 : Int32) = 38) = False from by decide, show ((124 : Int32) = 39) = False from by decide, show ((124 : Int32) = 40) = False from by decide, show ((124 : Int32) = 41) = False from by decide, show ((124 : Int32) = 42) = False from by decide, show ((124 : Int32) = 43) = False from by decide, show ((124 : Int32) = 44) = False from by decide, show ((124 : Int32) = 45) = False from by decide, show ((124 : Int32) = 46) = False from by decide, show ((124 : Int32) = 47) = False from by decide, show ((124 : Int32) = 48) = False from by decide, show ((124 : Int32) = 49) = False from by decide, show ((124 : Int32) = 50) = False from by decide, show ((124 : Int32) = 51) = False from by decide, show ((124 : Int32) = 52) = False from by decide, show ((124 : Int32) = 53) = False from by decide, show ((124 : Int32) = 54) = False from by decide, show ((124 : Int32) = 55) = False from by decide, show ((124 : Int32) = 56) = False from by decide, show ((124 : Int32) = 57) = False from by decide, show ((124 : Int32) = 58) = False from by decide, show ((124 : Int32) = 59) = False from by decide, show ((124 : Int32) = 60) = False from by decide, show ((124 : Int32) = 61) = False from by decide, if_false]
      split
      · split <;> rfl
      · rfl
    · show X4_works 5 a b = _
      unfold X4_works X4_works_j66
      rw [if_neg (by decide), if_pos rfl]
      split
      · split <;> rfl
      · rfl
  · refine ⟨if b ≤ a then 0 else 1, ?_, ?_⟩
    · show (if b ≤ a then some (0 : Int32) else some 1) = _
      split <;> rfl
    · show X4_works 6 a b = _
      unfold X4_works
      rw [if_neg (by decide), if_neg (by decide), if_pos rfl]
      split <;> rfl
  · refine ⟨if a = b then 1 else 0, ?_, ?_⟩
    · show (if a = b then some (1 : Int32) else some 0) = _
      split <;> rfl
    · show X4_works 7 a b = _
      unfold X4_works
      rw [if_neg (by decide), if_neg (by decide), if_neg (by decide), if_pos rfl]
      split <;> rfl
  · exact ⟨a + b, rfl, rfl⟩
  · exact ⟨a - b, rfl, rfl⟩
  · exact ⟨a * b, rfl, rfl⟩
  · refine ⟨if b = 0 then 0 else a / b, ?_, ?_⟩
    · show (if b = 0 then some (0 : Int32) else dv_ b <| some (a / b)) = _
      split
      · rfl
      · rename_i h; rw [e_dv h]
    · show (if b = 0 then some (0 : Int32) else dv_ b <| some (a / b)) = _
      split
      · rfl
      · rename_i h; rw [e_dv h]
