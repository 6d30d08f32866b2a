/-! LAWS: signs, numbers, words of the text (own work) -/
set_option maxRecDepth 100000
theorem by_127 : ∀ m : Fin 128, (nI m.val).toInt8.toInt32 = nI m.val := by decide +kernel
theorem by_eq {m n : Nat} (hm : m < 128) (hn : n ≤ 255) : nI m = (nI n).toInt8.toInt32 ↔ m = n := by
  have h1 := by_127 ⟨m, hm⟩
  simp only at h1
  constructor
  · intro h
    have h2 := by_255 ⟨n, by omega⟩
    have h3 := by_255 ⟨m, by omega⟩
    simp only at h2 h3
    rw [← h] at h2
    rw [h1] at h3
    exact nI_inj (by omega) (by omega) (h3.symm.trans h2)
  · intro h
    rw [← h, h1]
theorem LitP.fct {g : GS} {ρ : Nat → Nat} {q : Nat} {cs : List Nat} (h : LitP g ρ q cs) : ∃ b, gK g q % 1000 = 200 ∧ gI g q 1 = 0 ∧ gR g q 0 = b + 1 ∧ gK g b % 1000 = 101 ∧ gN g b = cs.length ∧ ∀ i c, cs[i]? = some c → gI g b i = nI c := by
  obtain ⟨h1, h2, h3, h4, b, h5, h6, h7, h8, h9, h10⟩ := h
  exact ⟨b, by rw [h1], h4, h5, by rw [h6], h9, h10⟩
theorem J8_length_l {g : GS} {ρ : Nat → Nat} {q : Nat} {cs : List Nat} (h : LitP g ρ q cs) : J8_length q g = some (nI cs.length) := by
  obtain ⟨b, h1, h2, h3, h4, h5, h6⟩ := h.fct
  unfold J8_length J8_coder
  rw [e_rk h1, h3, e_nn, e_rk h4, if_neg (by decide), e_rk h1, e_ob, h2, h5]
  rw [show (zy_ 0 &&& 31 : Int32) = 0 from by decide, Int32.shiftRight_zero]
  rfl
theorem J8_isLatin1_l {g : GS} {ρ : Nat → Nat} {q : Nat} {cs : List Nat} (h : LitP g ρ q cs) : J8_isLatin1 q g = some 1 := by
  obtain ⟨b, h1, h2, -⟩ := h.fct
  unfold J8_isLatin1
  rw [if_neg (by decide), e_rk h1, if_pos h2]
theorem J8_indexOf_l {g : GS} {ρ : Nat → Nat} {q c : Nat} {cs : List Nat} (h : LitP g ρ q cs) (hcs : ∀ x, x ∈ cs → x < 128) (hl0 : 0 < cs.length) (hl : cs.length ≤ 100) (hc : c ≤ 255) : ∃ r, J8_indexOf q (nI c) g = some r ∧ (r < 0 ↔ c ∉ cs) := by
  obtain ⟨b, h1, h2, h3, h4, h5, h6⟩ := h.fct
  obtain ⟨o, m1, m2⟩ := lp_t (body := fun a => J9_indexOfChar_b7 b (nI cs.length) (nI c).toInt8.toInt32 g a)
    (I := fun k a => ∃ i, a = nI i ∧ i ≤ cs.length ∧ k = cs.length - i ∧ ∀ j x, j < i → cs[j]? = some x → x ≠ c)
    (Q := fun o => (∃ i, o = .inl (nI i) ∧ i < cs.length ∧ c ∈ cs) ∨ (o = .inr () ∧ c ∉ cs))
    (by
      rintro k a ⟨i, rfl, e2, e3, e4⟩
      unfold J9_indexOfChar_b7
      by_cases hi : i < cs.length
      · obtain ⟨x, hx⟩ := get_ex (xs := cs) hi
        have hxm : x ∈ cs := List.mem_of_getElem? hx
        rw [if_neg (nI_ge hi (by omega)), e_rk h4, h5, e_inN hi (by omega), nI_clamp (by omega), h6 i x hx]
        by_cases q2 : x = c
        · rw [if_pos ((by_eq (hcs x hxm) hc).mpr q2)]
          exact Or.inr ⟨_, rfl, Or.inl ⟨i, rfl, hi, by rw [← q2]; exact hxm⟩⟩
        · rw [if_neg (fun k => q2 ((by_eq (hcs x hxm) hc).mp k)), nI_1]
          refine Or.inl ⟨_, k - 1, by omega, rfl, i + 1, rfl, by omega, by omega, fun j y hj hy => ?_⟩
          by_cases e : j = i
          · rw [e, hx] at hy
            rw [← Option.some.inj hy]
            exact q2
          · exact e4 j y (by omega) hy
      · rw [if_pos (nI_le (by omega) (by omega))]
        refine Or.inr ⟨_, rfl, Or.inr ⟨rfl, fun k => ?_⟩⟩
        obtain ⟨j, hj, hjx⟩ := List.mem_iff_getElem.mp k
        exact e4 j c (by omega) (by rw [List.getElem?_eq_getElem hj, hjx]) rfl)
    fu_ cs.length (nI 0) ⟨0, rfl, Nat.zero_le _, rfl, fun j x hj => absurd hj (Nat.not_lt_zero _)⟩ (by unfold fu_; omega)
  have hmx : jmax_ 0 0 = nI 0 := by decide
  have hmn : jmin_ (nI cs.length) (Int32.ofNat cs.length) = nI cs.length := by
    show jmin_ (nI cs.length) (nI cs.length) = nI cs.length
    unfold jmin_
    split <;> rfl
  have hlt : nI 0 < nI cs.length := nI_lt hl0 (by omega)
  have henc : J9_canEncode (nI c) = some 1 := by
    unfold J9_canEncode
    rw [if_neg (nI_pos (by omega)), if_neg (show ¬ (255 : Int32) < nI c from nI_nlt (a := 255) (b := c) hc (by omega))]
  unfold J8_indexOf J8_indexOf_2 J9_indexOf J9_indexOfChar
  rw [e_rk h1, e_rk h1, J8_isLatin1_l h, e_ob, if_neg nn01, h3, e_nn, J8_length_l h, e_ob, henc, e_ob, if_neg nn01, e_rk h4, h5, hmx, hmn, if_pos hlt, m1, e_ob]
  rcases m2 with ⟨i, rfl, hi, hm⟩ | ⟨rfl, hm⟩
  · refine ⟨nI i, rfl, fun k => absurd k (nI_pos (by omega)), fun k => absurd hm k⟩
  · exact ⟨-1, rfl, fun _ => hm, fun _ => by decide⟩
/-- the word's letters, as the model keeps them -/
def ha_ (h : Int64) (c : Int32) : Int64 := (h <<< ((5 : Int32).toInt64 &&& 63)) ||| ((c - 96).toInt64)
def hl_ (tx : Nat → Nat) (b : Nat) : Nat → Int64
  | 0 => 0
  | n + 1 => ha_ (hl_ tx b n) (nI (tx (b + n)))
def nu_ (tx : Nat → Nat) (b : Nat) : Nat → Nat
  | 0 => 0
  | n + 1 => 10 * nu_ tx b n + (tx (b + n) - 48)
def sig_ : List Nat := [59, 40, 41, 43, 45, 42, 47, 60, 61]
/-- a token: from b to e, of kind kd -/
def TokP (g : GS) (rd L : Nat) (tx : Nat → Nat) (b e kd : Nat) (σ : MS) : Prop :=
  (gI g rd 8 = nI e ∧ gI g rd 9 = nI kd ∧ gI g rd 10 = nI b ∧ gI g rd 11 = nI e) ∧ (m_I σ 20 = nI e ∧ m_I σ 21 = nI kd ∧ m_I σ 22 = nI b ∧ m_I σ 23 = nI (e - b)) ∧ (b ≤ e ∧ e ≤ L) ∧
  ((kd = 0 ∧ b = L ∧ e = L) ∨ (kd = 1 ∧ b < e ∧ (∀ i, b ≤ i → i < e → 97 ≤ tx i ∧ tx i ≤ 122) ∧ (e - b ≤ 6 → m_L σ = hl_ tx b (e - b))) ∨
   (kd = 2 ∧ b < e ∧ (e - b ≤ 4 → ∃ w, w ≤ 9999 ∧ gI g rd 12 = nI w ∧ m_I σ 24 = nI w)) ∨ (kd = 3 ∧ e = b + 1 ∧ tx b ∈ sig_ ∧ m_I σ 25 = nI (tx b)) ∨ (kd = 4 ∧ e = b + 1))
theorem nu_lt {tx : Nat → Nat} {b : Nat} : ∀ n, (∀ i, i < n → tx (b + i) ≤ 57) → nu_ tx b n < 10 ^ n := by
  intro n
  induction n with
  | zero => intro _; exact Nat.one_pos
  | succ n ih =>
    intro h
    have h1 := ih (fun i hi => h i (by omega))
    have h2 := h n (by omega)
    rw [Nat.pow_succ]
    unfold nu_
    omega
/-- a word's letters are passed -/
theorem pass_l {g : GS} {ρ : Nat → Nat} {rd a tp L b : Nat} {tx : Nat → Nat} {σ : MS} (h : TxP g ρ rd a tp L tx σ) (h8 : gI g rd 8 = nI b) (h20 : m_I σ 20 = nI b) (h22 : m_I σ 22 = nI b) (hL0 : m_L σ = 0) (hb : b < L) (hl : 97 ≤ tx b ∧ tx b ≤ 122) :
    ∃ e σ', lp_ (fun a => X5_next_b62 rd a) fu_ g = some (pI g rd 8 (nI e)) ∧ lp_ (fun a => X4_goes_b108 a) fu_ σ = some σ' ∧ Mf [20] [] σ σ' ∧ m_I σ' 20 = nI e ∧ b < e ∧ e ≤ L ∧ (∀ i, b ≤ i → i < e → 97 ≤ tx i ∧ tx i ≤ 122) ∧ (e - b ≤ 6 → m_L σ' = hl_ tx b (e - b)) := by
  have hL := h.2.2.2.1.2
  obtain ⟨g', σ', m1, m2, e, m3, m4, m5, m6, m7, m8, m9, m10, m11⟩ := lp2_t (body := fun a => X5_next_b62 rd a) (body' := fun a => X4_goes_b108 a)
    (I := fun j (g' : GS) (σ' : MS) => ∃ q, b ≤ q ∧ q ≤ L ∧ j = L - q ∧ g' = pI g rd 8 (nI q) ∧ Mf [20] [] σ σ' ∧ m_I σ' 20 = nI q ∧ (∀ i, b ≤ i → i < q → 97 ≤ tx i ∧ tx i ≤ 122) ∧ (q - b ≤ 6 → m_L σ' = hl_ tx b (q - b)))
    (Q := fun g' σ' => ∃ q, b ≤ q ∧ q ≤ L ∧ g' = pI g rd 8 (nI q) ∧ Mf [20] [] σ σ' ∧ m_I σ' 20 = nI q ∧ (∀ i, b ≤ i → i < q → 97 ≤ tx i ∧ tx i ≤ 122) ∧ (q - b ≤ 6 → m_L σ' = hl_ tx b (q - b)) ∧ ¬ (q < L ∧ 97 ≤ tx q ∧ tx q ≤ 122) ∧ True)
    (by
      rintro j g1 σ1 ⟨q, q1, q2, q3, rfl, q5, q6, q7, q8⟩
      have hT : TxP (pI g rd 8 (nI q)) ρ rd a tp L tx σ1 := h.put (by decide) (q5.I (by decide)) (q5.Af (by decide))
      have g8 : gI (pI g rd 8 (nI q)) rd 8 = nI q := by rw [I_pI, if_pos ⟨rfl, rfl⟩]
      have h255 := h.2.2.2.2.2 q
      have e22 : m_I σ1 22 = nI b := by rw [q5.I (by decide), h22]
      have hsub : nI q - nI b = nI (q - b) := by
        rw [i_eq, i_sub (by rw [i_n (by omega), i_n (by omega)]; omega) (by rw [i_n (by omega), i_n (by omega)]; omega), i_n (by omega), i_n (by omega), i_n (by omega)]
        omega
      unfold X5_next_b62 X4_goes_b108 X4_goes_j159
      rw [e_wk hT.1.1, X5_isLetter_l hT g8 (by omega), e_ob, q6, byteAt_l hT (by omega), e_ob, e_ob]
      simp only [isL_t]
      by_cases hq : q < L ∧ 97 ≤ tx q ∧ tx q ≤ 122
      · rw [if_pos hq, if_neg (show ¬ L ≤ q by omega), X4_isLetter_l h255, e_ob]
        simp only [isL_t]
        rw [if_pos hq.2, if_neg nn01, if_neg nn01, g8, nI_1, pI_pI, e22, hsub]
        have hlet : ∀ i, b ≤ i → i < q + 1 → 97 ≤ tx i ∧ tx i ≤ 122 := fun i i1 i2 => by
          by_cases e : i = q
          · rw [e]; exact hq.2
          · exact q7 i i1 (by omega)
        by_cases h6 : 6 ≤ q - b
        · rw [if_pos (show (6 : Int32) ≤ nI (q - b) from nI_le (a := 6) h6 (by omega))]
          refine Or.inl ⟨_, _, j - 1, by omega, rfl, rfl, q + 1, by omega, by omega, by omega, rfl, q5.trans (Mf.sI (LI := [20]) (LA := []) (by decide)) (fun _ k => k) (fun _ k => k), by rw [rI_sI, if_pos rfl], hlet, fun k => by omega⟩
        · rw [if_neg (show ¬ (6 : Int32) ≤ nI (q - b) from nI_ge (b := 6) (by omega) (by omega))]
          refine Or.inl ⟨_, _, j - 1, by omega, rfl, rfl, q + 1, by omega, by omega, by omega, rfl, (q5.trans (Mf.sL (LI := []) (LA := [])) (fun _ k => by cases k) (fun _ k => k)).trans (Mf.sI (LI := [20]) (LA := []) (by decide)) (fun _ k => k) (fun _ k => k), by rw [rI_sI, if_pos rfl, rI_sL, q6, nI_1], hlet, fun k => ?_⟩
          rw [show q + 1 - b = (q - b) + 1 by omega]
          show m_L (s_I (s_L σ1 _) 20 _) = ha_ (hl_ tx b (q - b)) (nI (tx (b + (q - b))))
          rw [rL_sI, rL_sL, q8 (by omega), show b + (q - b) = q by omega]
          rfl
      · rw [if_neg hq, if_pos rfl]
        have hno : X4_isLetter (if L ≤ q then 0 else nI (tx q)) = some 0 := by
          by_cases k : L ≤ q
          · rw [if_pos k]; rfl
          · rw [if_neg k, X4_isLetter_l h255]
            simp only [isL_t]
            rw [if_neg (fun k2 => hq ⟨by omega, k2⟩)]
        rw [hno, e_ob, if_pos rfl]
        exact Or.inr ⟨_, _, rfl, rfl, q, q1, q2, rfl, q5, q6, q7, q8, hq, trivial⟩)
    fu_ (L - b) g σ ⟨b, Nat.le_refl _, by omega, rfl, (pI_id h8.symm).symm, Mf.rf, h20, fun i i1 i2 => by omega, fun _ => by rw [Nat.sub_self, hL0]; rfl⟩ (by unfold fu_; omega)
  refine ⟨e, σ', by rw [m1, m5], m2, m6, m7, ?_, m4, m8, m9⟩
  rcases Nat.lt_or_ge b e with k | k
  · exact k
  · have : e = b := by omega
    exact absurd ⟨by omega, by rw [this]; exact hl⟩ m10
/-- a number's digits are passed -/
theorem digs_l {g : GS} {ρ : Nat → Nat} {rd a tp L b : Nat} {tx : Nat → Nat} {σ : MS} (h : TxP g ρ rd a tp L tx σ) (h8 : gI g rd 8 = nI b) (h12 : gI g rd 12 = 0) (h20 : m_I σ 20 = nI b) (h22 : m_I σ 22 = nI b) (h24 : m_I σ 24 = 0) (hb : b < L) (hl : 48 ≤ tx b ∧ tx b ≤ 57) :
    ∃ e w σ', lp_ (fun a => X5_next_b102 rd a) fu_ g = some (pI (pI g rd 12 w) rd 8 (nI e)) ∧ lp_ (fun a => X4_goes_b187 a) fu_ σ = some σ' ∧ Mf [20, 24] [] σ σ' ∧ m_I σ' 20 = nI e ∧ b < e ∧ e ≤ L ∧ (e - b ≤ 4 → ∃ n, n ≤ 9999 ∧ w = nI n ∧ m_I σ' 24 = nI n) := by
  have hL := h.2.2.2.1.2
  have k100k : ((100000 : Int32)).toInt = 100000 := by decide
  have k10 : ((10 : Int32)).toInt = 10 := by decide
  have k48 : ((48 : Int32)).toInt = 48 := by decide
  obtain ⟨g', σ', m1, m2, e, w, m3, m4, m5, m6, m7, m8, m9, m10⟩ := lp2_t (body := fun a => X5_next_b102 rd a) (body' := fun a => X4_goes_b187 a)
    (I := fun j (g' : GS) (σ' : MS) => ∃ q w, b ≤ q ∧ q ≤ L ∧ j = L - q ∧ g' = pI (pI g rd 12 w) rd 8 (nI q) ∧ Mf [20, 24] [] σ σ' ∧ m_I σ' 20 = nI q ∧ (∀ i, b ≤ i → i < q → 48 ≤ tx i ∧ tx i ≤ 57) ∧ (q - b ≤ 4 → w = nI (nu_ tx b (q - b)) ∧ m_I σ' 24 = nI (nu_ tx b (q - b))))
    (Q := fun g' σ' => ∃ q w, b ≤ q ∧ q ≤ L ∧ g' = pI (pI g rd 12 w) rd 8 (nI q) ∧ Mf [20, 24] [] σ σ' ∧ m_I σ' 20 = nI q ∧ (∀ i, b ≤ i → i < q → 48 ≤ tx i ∧ tx i ≤ 57) ∧ (q - b ≤ 4 → w = nI (nu_ tx b (q - b)) ∧ m_I σ' 24 = nI (nu_ tx b (q - b))) ∧ ¬ (q < L ∧ 48 ≤ tx q ∧ tx q ≤ 57))
    (by
      rintro j g1 σ1 ⟨q, w, q1, q2, q3, rfl, q5, q6, q7, q8⟩
      have hT1 : TxP (pI g rd 12 w) ρ rd a tp L tx σ1 := h.put (by decide) (q5.I (by decide)) (q5.Af (by decide))
      have hT : TxP (pI (pI g rd 12 w) rd 8 (nI q)) ρ rd a tp L tx σ1 := hT1.put (by decide) rfl rfl
      have g8 : gI (pI (pI g rd 12 w) rd 8 (nI q)) rd 8 = nI q := by rw [I_pI, if_pos ⟨rfl, rfl⟩]
      have g12 : gI (pI (pI g rd 12 w) rd 8 (nI q)) rd 12 = w := by rw [I_pI, if_neg (by rintro ⟨-, k⟩; cases k), I_pI, if_pos ⟨rfl, rfl⟩]
      have h255 := h.2.2.2.2.2 q
      have e22 : m_I σ1 22 = nI b := by rw [q5.I (by decide), h22]
      have hsub : nI q - nI b = nI (q - b) := by
        rw [i_eq, i_sub (by rw [i_n (by omega), i_n (by omega)]; omega) (by rw [i_n (by omega), i_n (by omega)]; omega), i_n (by omega), i_n (by omega), i_n (by omega)]
        omega
      unfold X5_next_b102 X4_goes_b187 X4_goes_j237
      rw [e_wk hT.1.1, X5_isDigit_l hT g8 (by omega), e_ob, q6, byteAt_l hT (by omega), e_ob, e_ob]
      simp only [isD_t]
      by_cases hq : q < L ∧ 48 ≤ tx q ∧ tx q ≤ 57
      · have hnq : ¬ L ≤ q := by omega
        have hlet : ∀ i, b ≤ i → i < q + 1 → 48 ≤ tx i ∧ tx i ≤ 57 := fun i i1 i2 => by
          by_cases e : i = q
          · rw [e]; exact hq.2
          · exact q7 i i1 (by omega)
        have hpp : ∀ v, pI (pI (pI (pI g rd 12 w) rd 8 (nI q)) rd 12 v) rd 8 (nI (q + 1)) = pI (pI g rd 12 v) rd 8 (nI (q + 1)) := fun v => by
          refine GS.ext' (fun _ => rfl) (fun _ => rfl) (fun c i => ?_) (fun _ _ => rfl) rfl rfl
          simp only [I_pI]
          by_cases z1 : c = rd ∧ i = 8
          · simp only [if_pos z1]
          · by_cases z2 : c = rd ∧ i = 12
            · simp only [if_neg z1, if_pos z2]
            · simp only [if_neg z1, if_neg z2]
        rw [if_pos hq, here_l hT g8 (by omega), e_ob]
        simp only [if_neg hnq]
        rw [X4_isDigit_l h255, e_ob]
        simp only [isD_t]
        rw [if_pos hq.2, if_neg nn01, if_neg nn01, e_nm, g12, I_pI, if_neg (by rintro ⟨-, k⟩; cases k), g8, nI_1, hpp, e22, hsub]
        by_cases h4 : 4 ≤ q - b
        · rw [if_pos (show (4 : Int32) ≤ nI (q - b) from nI_le (a := 4) h4 (by omega))]
          exact Or.inl ⟨_, _, j - 1, by omega, rfl, rfl, q + 1, _, by omega, by omega, by omega, rfl, q5.trans (Mf.sI (LI := [20]) (LA := []) (by decide)) (by decide) (fun _ k => k), by rw [rI_sI, if_pos rfl], hlet, fun k => by omega⟩
        · rw [if_neg (show ¬ (4 : Int32) ≤ nI (q - b) from nI_ge (b := 4) (by omega) (by omega))]
          obtain ⟨w1, w2⟩ := q8 (by omega)
          have hnu := nu_lt (tx := tx) (b := b) (q - b) (fun i hi => (q7 (b + i) (by omega) (by omega)).2)
          have hnu4 : nu_ tx b (q - b) < 1000 := by
            rcases (show q - b = 0 ∨ q - b = 1 ∨ q - b = 2 ∨ q - b = 3 by omega) with k | k | k | k <;> rw [k] at hnu ⊢ <;> omega
          have hval : 10 * nI (nu_ tx b (q - b)) + nI (tx q) - 48 = nI (nu_ tx b (q + 1 - b)) := by
            rw [show q + 1 - b = (q - b) + 1 by omega]
            show _ = nI (10 * nu_ tx b (q - b) + (tx (b + (q - b)) - 48))
            rw [show b + (q - b) = q by omega]
            have y1 : (10 * nI (nu_ tx b (q - b))).toInt = 10 * (nu_ tx b (q - b) : Int) := by
              rw [i_mul (by rw [k10, i_n (by omega)]; omega) (by rw [k10, i_n (by omega)]; omega), k10, i_n (by omega)]
            have y2 : (10 * nI (nu_ tx b (q - b)) + nI (tx q)).toInt = 10 * (nu_ tx b (q - b) : Int) + (tx q : Int) := by
              rw [i_add (by rw [y1, i_n (by omega)]; omega) (by rw [y1, i_n (by omega)]; omega), y1, i_n (by omega)]
            rw [i_eq, i_sub (by rw [y2, k48]; omega) (by rw [y2, k48]; omega), y2, k48, i_n (by omega)]
            omega
          have hmin : jmin_ 100000 (nI (nu_ tx b (q + 1 - b))) = nI (nu_ tx b (q + 1 - b)) := by
            have hn2 := nu_lt (tx := tx) (b := b) (q + 1 - b) (fun i hi => (hlet (b + i) (by omega) (by omega)).2)
            have hn5 : nu_ tx b (q + 1 - b) < 10000 := by
              rcases (show q + 1 - b = 1 ∨ q + 1 - b = 2 ∨ q + 1 - b = 3 ∨ q + 1 - b = 4 by omega) with k | k | k | k <;> rw [k] at hn2 ⊢ <;> omega
            unfold jmin_
            rw [if_pos]
            rw [i_lt, k100k, i_n (by omega)]
            omega
          refine Or.inl ⟨_, _, j - 1, by omega, rfl, rfl, q + 1, _, by omega, by omega, by omega, rfl, (q5.trans (Mf.sI (LI := [24]) (LA := []) (by decide)) (by decide) (fun _ k => k)).trans (Mf.sI (LI := [20]) (LA := []) (by decide)) (by decide) (fun _ k => k), by rw [rI_sI, if_pos rfl, rI_sI, if_neg (by decide), q6, nI_1], hlet, fun k => ⟨?_, ?_⟩⟩
          · rw [w1, hval, hmin]
          · rw [rI_sI, if_neg (by decide), rI_sI, if_pos rfl, w2, hval]
      · rw [if_neg hq, if_pos rfl]
        have hno : X4_isDigit (if L ≤ q then 0 else nI (tx q)) = some 0 := by
          by_cases k : L ≤ q
          · rw [if_pos k]; rfl
          · rw [if_neg k, X4_isDigit_l h255]
            simp only [isD_t]
            rw [if_neg (fun k2 => hq ⟨by omega, k2⟩)]
        rw [hno, e_ob, if_pos rfl]
        exact Or.inr ⟨_, _, rfl, rfl, q, w, q1, q2, rfl, q5, q6, q7, q8, hq⟩)
    fu_ (L - b) g σ ⟨b, 0, Nat.le_refl _, by omega, rfl, by rw [pI_id h12.symm, pI_id h8.symm], Mf.rf, h20, fun i i1 i2 => by omega, fun _ => by rw [Nat.sub_self, h24]; exact ⟨rfl, rfl⟩⟩ (by unfold fu_; omega)
  have hbe : b < e := by
    rcases Nat.lt_or_ge b e with k | k
    · exact k
    · have : e = b := by omega
      exact absurd ⟨by omega, by rw [this]; exact hl⟩ m10
  refine ⟨e, w, σ', by rw [m1, m5], m2, m6, m7, hbe, m4, fun k => ?_⟩
  obtain ⟨w1, w2⟩ := m9 k
  have hn2 := nu_lt (tx := tx) (b := b) (e - b) (fun i hi => (m8 (b + i) (by omega) (by omega)).2)
  have hn5 : nu_ tx b (e - b) < 10000 := by
    rcases (show e - b = 1 ∨ e - b = 2 ∨ e - b = 3 ∨ e - b = 4 by omega) with k | k | k | k <;> rw [k] at hn2 ⊢ <;> omega
  exact ⟨_, by omega, w1, w2⟩
