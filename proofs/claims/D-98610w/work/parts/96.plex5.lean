/-! LAWS: the component's words and signs (own work) -/
set_option maxRecDepth 100000
theorem zc_127 : ∀ c : Fin 128, zc_ (zc_ (((nI c.val &&& 255).toUInt32 % 65536).toInt32)) = nI c.val := by decide +kernel
theorem J8_charAt_l {g : GS} {ρ : Nat → Nat} {q i c : Nat} {cs : List Nat} (h : LitP g ρ q cs) (hS : ∃ d, gS g 5 = d + 1) (hcs : ∀ x, x ∈ cs → x < 128) (hl : cs.length ≤ 100) (hc : cs[i]? = some c) : J8_charAt q (nI i) g = some (nI c) := by
  obtain ⟨b, h1, h2, h3, h4, h5, h6⟩ := h.fct
  obtain ⟨d, hd⟩ := hS
  have hi := (List.getElem?_eq_some_iff.mp hc).1
  have hz := zc_127 ⟨c, hcs c (List.mem_of_getElem? hc)⟩
  simp only at hz
  unfold J8_charAt J9_charAt J8_checkIndex J11_checkIndex
  rw [e_rk h1, J8_isLatin1_l h, e_ob, if_neg nn01, h3, e_nn, e_rk h4, hd, e_nn, h5, show Int32.ofNat cs.length = nI cs.length from rfl, if_neg (nI_pos (by omega)), if_pos (nI_lt hi (by omega)), e_ob, e_ob, e_inN hi (by omega), nI_clamp (by omega), e_ob, h6 i c hc, hz]
theorem is_l {g : GS} {ρ : Nat → Nat} {rd a tp L b e kd q : Nat} {tx : Nat → Nat} {cs : List Nat} {σ : MS} (h : TxP g ρ rd a tp L tx σ) (hT : TokP g rd L tx b e kd σ) (hq : LitP g ρ q cs) (hS : ∃ d, gS g 5 = d + 1) (hcs : ∀ x, x ∈ cs → x < 128) (hl : cs.length ≤ 100) : X5_is rd q g = some (if kd = 1 ∧ wd_ tx b (e - b) = cs then 1 else 0) := by
  obtain ⟨⟨t8, t9, t10, t11⟩, -, ⟨hbe, heL⟩, hk⟩ := hT
  have hkd : kd ≤ 4 := by
    rcases hk with ⟨k, -⟩ | ⟨k, -⟩ | ⟨k, -⟩ | ⟨k, -⟩ | ⟨k, -⟩ <;> omega
  obtain ⟨⟨a1, a2, a3, a4, a5⟩, ⟨b1, b2, b3, b4⟩, ⟨c1, c2, c3, c4, c5⟩, ⟨d1, d2⟩, e1, f1⟩ := id h
  obtain ⟨bb, h1, -⟩ := hq.fct
  unfold X5_is
  rw [e_wk a1, t9]
  by_cases hk1 : kd = 1
  · have hsub : nI e - nI b = nI (e - b) := by
      rw [i_eq, i_sub (by rw [i_n (by omega), i_n (by omega)]; omega) (by rw [i_n (by omega), i_n (by omega)]; omega), i_n (by omega), i_n (by omega), i_n (by omega)]
      omega
    rw [if_pos (by rw [hk1]; rfl), e_rk h1, J8_length_l hq, e_ob, t10, t11, hsub]
    by_cases hlen : cs.length = e - b
    · rw [if_pos (by rw [hlen])]
      obtain ⟨o, u1, u2⟩ := lp_t (body := fun x => X5_is_b28 rd q g x)
        (I := fun m x => ∃ i, x = nI i ∧ i ≤ cs.length ∧ m = cs.length - i ∧ ∀ j, j < i → cs[j]? = some (tx (b + j)))
        (Q := fun o => (o = .inr () ∧ ∀ j, j < cs.length → cs[j]? = some (tx (b + j))) ∨ (o = .inl () ∧ ∃ j, j < cs.length ∧ cs[j]? ≠ some (tx (b + j))))
        (by
          rintro m x ⟨i, rfl, i2, i3, i4⟩
          unfold X5_is_b28
          rw [e_rk h1, J8_length_l hq, e_ob]
          by_cases hi : i < cs.length
          · obtain ⟨c, hc⟩ := get_ex (xs := cs) hi
            rw [if_neg (nI_ge hi (by omega)), J8_charAt_l hq hS hcs hl hc, e_ob, e_wk a1, a5, e_nn, e_wk b1, b4, e_nn, e_rk (by rw [c1]), t10, nI_add, c2, e_inN (by omega) (by omega), nI_clamp (by omega), c5 _ (by omega)]
            have h255 := by_255 ⟨tx (b + i), by have := f1 (b + i); omega⟩
            simp only at h255
            rw [h255]
            have hc128 := hcs c (List.mem_of_getElem? hc)
            have h255' := f1 (b + i)
            by_cases hcc : c = tx (b + i)
            · rw [if_pos (by rw [hcc]), nI_1]
              refine Or.inl ⟨_, m - 1, by omega, rfl, i + 1, rfl, by omega, by omega, fun j hj => ?_⟩
              by_cases k : j = i
              · rw [k, hc, hcc]
              · exact i4 j (by omega)
            · rw [if_neg (fun k => hcc (nI_inj (by omega) (by omega) k))]
              exact Or.inr ⟨_, rfl, Or.inr ⟨rfl, i, hi, by rw [hc]; exact fun k => hcc (Option.some.inj k)⟩⟩
          · rw [if_pos (nI_le (by omega) (by omega))]
            exact Or.inr ⟨_, rfl, Or.inl ⟨rfl, fun j hj => i4 j (by omega)⟩⟩)
        fu_ cs.length (nI 0) ⟨0, rfl, Nat.zero_le _, rfl, fun j hj => absurd hj (Nat.not_lt_zero _)⟩ (by unfold fu_; omega)
      rw [show (lp_ (fun x => X5_is_b28 rd q g x) fu_ 0) = _ from u1, e_ob]
      rcases u2 with ⟨rfl, hall⟩ | ⟨rfl, j, hj, hne⟩
      · have heq : wd_ tx b (e - b) = cs := by
          apply List.ext_getElem?
          intro i
          by_cases hi : i < cs.length
          · rw [hall i hi, wd_at (by omega)]
          · rw [List.getElem?_eq_none (by rw [wd_len]; omega), List.getElem?_eq_none (by omega)]
        rw [if_pos ⟨hk1, heq⟩]
        rfl
      · rw [if_neg]
        · rfl
        · rintro ⟨-, heq⟩
          apply hne
          rw [← heq, wd_at (by omega)]
    · rw [if_neg (fun k => hlen (nI_inj (by omega) (by omega) k)), if_neg]
      rintro ⟨-, heq⟩
      apply hlen
      rw [← heq, wd_len]
  · rw [if_neg (show ¬ nI kd = 1 from fun k => hk1 (nI_inj (b := 1) (by omega) (by omega) k)), if_neg (fun k => hk1 k.1)]
theorem TokP.kd4 {g : GS} {rd L b e kd : Nat} {tx : Nat → Nat} {σ : MS} (hT : TokP g rd L tx b e kd σ) : kd ≤ 4 := by
  obtain ⟨-, -, -, hk⟩ := hT
  rcases hk with ⟨k, -⟩ | ⟨k, -⟩ | ⟨k, -⟩ | ⟨k, -⟩ | ⟨k, -⟩ <;> omega
theorem X5_isSign_l {g : GS} {ρ : Nat → Nat} {rd a tp L b e kd c : Nat} {tx : Nat → Nat} {σ : MS} (h : TxP g ρ rd a tp L tx σ) (hT : TokP g rd L tx b e kd σ) (hc : c < 128) : X5_isSign rd (nI c) g = some (if kd = 3 ∧ tx b = c then 1 else 0) := by
  have hkd := hT.kd4
  obtain ⟨⟨t8, t9, t10, t11⟩, -, ⟨hbe, heL⟩, hk⟩ := hT
  obtain ⟨⟨a1, a2, a3, a4, a5⟩, ⟨b1, b2, b3, b4⟩, ⟨c1, c2, c3, c4, c5⟩, ⟨d1, d2⟩, e1, f1⟩ := id h
  unfold X5_isSign
  rw [e_wk a1, t9]
  by_cases h3 : kd = 3
  · have hb : b < 700 := by
      rcases hk with ⟨k, -⟩ | ⟨k, -⟩ | ⟨k, -⟩ | ⟨k, k2, -⟩ | ⟨k, k2⟩ <;> omega
    rw [if_pos (by rw [h3]; rfl), a5, e_nn, e_wk b1, b4, e_nn, e_rk (by rw [c1]), t10, c2, e_inN hb (by omega), nI_clamp (by omega), c5 b hb]
    by_cases q : tx b = c
    · rw [if_pos ((by_eq hc (f1 b)).mpr q.symm).symm, if_pos ⟨h3, q⟩]
    · rw [if_neg (fun k => q ((by_eq hc (f1 b)).mp k.symm).symm), if_neg (fun k => q k.2)]
  · rw [if_neg (show ¬ nI kd = 3 from fun k => h3 (nI_inj (b := 3) (by omega) (by omega) k)), if_neg (fun k => h3 k.1)]
theorem X4_isSign_l {g : GS} {rd L b e kd c : Nat} {tx : Nat → Nat} {σ : MS} (hT : TokP g rd L tx b e kd σ) (hb : tx b ≤ 255) (hc : c < 128) : X4_isSign (nI c) σ = some (if kd = 3 ∧ tx b = c then 1 else 0) := by
  have hkd := hT.kd4
  obtain ⟨-, ⟨-, m21, -, -⟩, -, hk⟩ := hT
  unfold X4_isSign
  rw [m21]
  by_cases h3 : kd = 3
  · have h25 : m_I σ 25 = nI (tx b) := by
      rcases hk with ⟨k, -⟩ | ⟨k, -⟩ | ⟨k, -⟩ | ⟨k, -, -, k2⟩ | ⟨k, -⟩
      · omega
      · omega
      · omega
      · exact k2
      · omega
    rw [if_pos (by rw [h3]; rfl), h25]
    by_cases q : tx b = c
    · rw [if_pos (by rw [q]), if_pos ⟨h3, q⟩]
    · rw [if_neg (fun k => q (nI_inj (by omega) (by omega) k)), if_neg (fun k => q k.2)]
  · rw [if_neg (show ¬ nI kd = 3 from fun k => h3 (nI_inj (b := 3) (by omega) (by omega) k)), if_neg (fun k => h3 k.1)]
/-- an array of texts -/
def NmP (g : GS) (ρ : Nat → Nat) (q : Nat) (ws : List (List Nat)) : Prop := gK g q % 1000 = 104 ∧ gN g q = ws.length ∧ ∀ i w, ws[i]? = some w → ∃ s, gR g q i = s + 1 ∧ LitP g ρ s w ∧ (∀ x, x ∈ w → x < 128) ∧ w.length ≤ 100
theorem which_l {g : GS} {ρ : Nat → Nat} {rd a tp L b e kd q : Nat} {tx : Nat → Nat} {ws : List (List Nat)} {σ : MS} (h : TxP g ρ rd a tp L tx σ) (hT : TokP g rd L tx b e kd σ) (hq : NmP g ρ q ws) (hS : ∃ d, gS g 5 = d + 1) (hl : ws.length ≤ 100) :
    ∃ r, X5_which rd q g = some r ∧ ((∃ i, r = nI i ∧ kd = 1 ∧ ws[i]? = some (wd_ tx b (e - b)) ∧ ∀ j, j < i → ws[j]? ≠ some (wd_ tx b (e - b))) ∨ (r = -1 ∧ ¬ (kd = 1 ∧ wd_ tx b (e - b) ∈ ws))) := by
  obtain ⟨q1, q2, q3⟩ := hq
  obtain ⟨o, u1, u2⟩ := lp_t (body := fun x => X5_which_b2 rd q g x)
    (I := fun m x => ∃ i, x = nI i ∧ i ≤ ws.length ∧ m = ws.length - i ∧ (kd = 1 → ∀ j, j < i → ws[j]? ≠ some (wd_ tx b (e - b))))
    (Q := fun o => (∃ i, o = .inl (nI i) ∧ kd = 1 ∧ ws[i]? = some (wd_ tx b (e - b)) ∧ ∀ j, j < i → ws[j]? ≠ some (wd_ tx b (e - b))) ∨ (o = .inr () ∧ ¬ (kd = 1 ∧ wd_ tx b (e - b) ∈ ws)))
    (by
      rintro m x ⟨i, rfl, i2, i3, i4⟩
      unfold X5_which_b2
      rw [e_rk q1, q2, show Int32.ofNat ws.length = nI ws.length from rfl]
      by_cases hi : i < ws.length
      · obtain ⟨w, hw⟩ := get_ex (xs := ws) hi
        obtain ⟨s, s1, s2, s3, s4⟩ := q3 i w hw
        rw [if_neg (nI_ge hi (by omega)), e_inN hi (by omega), nI_clamp (by omega), s1, e_nn, e_wk h.1.1, is_l h hT s2 hS s3 s4, e_ob]
        by_cases k : kd = 1 ∧ wd_ tx b (e - b) = w
        · rw [if_pos k, if_neg nn01]
          exact Or.inr ⟨_, rfl, Or.inl ⟨i, rfl, k.1, by rw [hw, k.2], i4 k.1⟩⟩
        · rw [if_neg k, if_pos rfl, nI_1]
          refine Or.inl ⟨_, m - 1, by omega, rfl, i + 1, rfl, by omega, by omega, fun hk j hj => ?_⟩
          by_cases z : j = i
          · rw [z, hw]
            exact fun y => k ⟨hk, (Option.some.inj y).symm⟩
          · exact i4 hk j (by omega)
      · rw [if_pos (nI_le (by omega) (by omega))]
        refine Or.inr ⟨_, rfl, Or.inr ⟨rfl, fun k => ?_⟩⟩
        obtain ⟨j, hj, hjw⟩ := List.mem_iff_getElem.mp k.2
        exact i4 k.1 j (by omega) (by rw [List.getElem?_eq_getElem hj, hjw]))
    fu_ ws.length (nI 0) ⟨0, rfl, Nat.zero_le _, rfl, fun _ j hj => absurd hj (Nat.not_lt_zero _)⟩ (by unfold fu_; omega)
  unfold X5_which
  rw [show (lp_ (fun x => X5_which_b2 rd q g x) fu_ 0) = _ from u1, e_ob]
  rcases u2 with ⟨i, rfl, i1, i2, i3⟩ | ⟨rfl, hno⟩
  · exact ⟨nI i, rfl, Or.inl ⟨i, rfl, i1, i2, i3⟩⟩
  · exact ⟨-1, rfl, Or.inr ⟨rfl, hno⟩⟩
