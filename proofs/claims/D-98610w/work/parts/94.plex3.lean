/-! LAWS: the next token (own work) -/
set_option maxRecDepth 100000
theorem pI_keep {g : GS} {rd k i : Nat} {v : Int32} (hi : i < 8 ∨ 13 ≤ i) (hk : 8 ≤ k ∧ k ≤ 12) : gI (pI g rd k v) rd i = gI g rd i := by
  rw [I_pI, if_neg (by rintro ⟨-, q⟩; omega)]
theorem sigif {α : Type} {n : Nat} (hn : n ≤ 255) (A B : α) : (if nI n = 59 then A else if nI n = 40 then A else if nI n = 41 then A else if nI n = 43 then A else if nI n = 45 then A else if nI n = 42 then A else if nI n = 47 then A else if nI n = 60 then A else if nI n = 61 then A else B) = if n ∈ sig_ then A else B := by
  have e : ∀ m, m ≤ 255 → (nI n = nI m ↔ n = m) := fun m hm => ⟨fun k => nI_inj (by omega) (by omega) k, fun k => by rw [k]⟩
  have h59 := e 59 (by omega)
  have h40 := e 40 (by omega)
  have h41 := e 41 (by omega)
  have h43 := e 43 (by omega)
  have h45 := e 45 (by omega)
  have h42 := e 42 (by omega)
  have h47 := e 47 (by omega)
  have h60 := e 60 (by omega)
  have h61 := e 61 (by omega)
  show (if nI n = nI 59 then A else if nI n = nI 40 then A else if nI n = nI 41 then A else if nI n = nI 43 then A else if nI n = nI 45 then A else if nI n = nI 42 then A else if nI n = nI 47 then A else if nI n = nI 60 then A else if nI n = nI 61 then A else B) = _
  simp only [h59, h40, h41, h43, h45, h42, h47, h60, h61]
  unfold sig_
  simp only [List.mem_cons, List.not_mem_nil, or_false]
  by_cases k1 : n = 59
  · simp [k1]
  · by_cases k2 : n = 40
    · simp [k2]
    · by_cases k3 : n = 41
      · simp [k3]
      · by_cases k4 : n = 43
        · simp [k4]
        · by_cases k5 : n = 45
          · simp [k5]
          · by_cases k6 : n = 42
            · simp [k6]
            · by_cases k7 : n = 47
              · simp [k7]
              · by_cases k8 : n = 60
                · simp [k8]
                · by_cases k9 : n = 61
                  · simp [k9]
                  · simp [k1, k2, k3, k4, k5, k6, k7, k8, k9]
theorem tok_l {g : GS} {ρ : Nat → Nat} {rd a tp L p : Nat} {tx : Nat → Nat} {σ : MS} (h : TxP g ρ rd a tp L tx σ) (hSig : LitP g ρ (gS g 23) sig_) (hp : gI g rd 8 = nI p) (hm : m_I σ 20 = nI p) (hpL : p ≤ L) :
    ∃ g' σ' b e kd, X5_next rd g = some g' ∧ X4_goes σ = some σ' ∧ Fr (fun q => q = rd) g g' ∧ (∀ i, i < 8 ∨ 13 ≤ i → gI g' rd i = gI g rd i) ∧ gR g' = gR g ∧ gz g' = gz g ∧ Mf [20, 21, 22, 23, 24, 25] [] σ σ' ∧ TokP g' rd L tx b e kd σ' ∧ p ≤ b ∧ TxP g' ρ rd a tp L tx σ' := by
  have hL := h.2.2.2.1.2
  obtain ⟨q, q1, q2, s1, s2, s3⟩ := skip_l h hp hm hpL
  obtain ⟨g1, hg1⟩ : ∃ g1, g1 = pI (pI g rd 8 (nI q)) rd 10 (nI q) := ⟨_, rfl⟩
  obtain ⟨σ1, hσ1⟩ : ∃ σ1, σ1 = s_I (s_L (s_I (s_I σ 20 (nI q)) 22 (nI q)) 0) 24 0 := ⟨_, rfl⟩
  have hM1 : Mf [20, 21, 22, 23, 24, 25] [] σ σ1 := by
    rw [hσ1]
    exact (((Mf.sI (LI := [20, 21, 22, 23, 24, 25]) (LA := []) (by decide)).trans (Mf.sI (LI := [22]) (LA := []) (by decide)) (by decide) (fun _ k => k)).trans (Mf.sL (LI := []) (LA := [])) (fun _ k => by cases k) (fun _ k => k)).trans (Mf.sI (LI := [24]) (LA := []) (by decide)) (by decide) (fun _ k => k)
  have hT1 : TxP g1 ρ rd a tp L tx σ1 := by
    rw [hg1]
    exact (h.put (k := 8) (σ' := σ1) (by decide) (hM1.I (by decide)) (hM1.Af (by decide))).put (by decide) rfl rfl
  have g8 : gI g1 rd 8 = nI q := by rw [hg1, I_pI, if_neg (by rintro ⟨-, k⟩; cases k), I_pI, if_pos ⟨rfl, rfl⟩]
  have g10 : gI g1 rd 10 = nI q := by rw [hg1, I_pI, if_pos ⟨rfl, rfl⟩]
  have F1 : Fr (fun q => q = rd) g g1 := by rw [hg1]; exact (Fr.pI (W := fun q => q = rd) rfl).trans (Fr.pI (W := fun q => q = rd) rfl) (fun _ _ k => k)
  have I1 : ∀ i, i < 8 ∨ 13 ≤ i → gI g1 rd i = gI g rd i := fun i hi => by rw [hg1, pI_keep hi (by omega), pI_keep hi (by omega)]
  have e20 : m_I σ1 20 = nI q := by rw [hσ1]; rfl
  have e22 : m_I σ1 22 = nI q := by rw [hσ1]; rfl
  have e24 : m_I σ1 24 = 0 := by rw [hσ1]; rfl
  have eL : m_L σ1 = 0 := by rw [hσ1]; rfl
  have h255 := h.2.2.2.2.2 q
  -- the byte looked at
  obtain ⟨c, hc⟩ : ∃ c : Int32, c = if L ≤ q then 0 else nI (tx q) := ⟨_, rfl⟩
  obtain ⟨σ2, hσ2⟩ : ∃ σ2, σ2 = s_I σ1 25 c := ⟨_, rfl⟩
  have hM2 : Mf [20, 21, 22, 23, 24, 25] [] σ σ2 := by rw [hσ2]; exact hM1.trans (Mf.sI (LI := [25]) (LA := []) (by decide)) (by decide) (fun _ k => k)
  have hT2 : TxP g1 ρ rd a tp L tx σ2 := by rw [hσ2]; exact hT1.to (W := no_) Fr.rf Ag.rf (fun _ _ k => k.elim) rfl rfl rfl rfl
  have m19 : m_I (s_I σ 20 (nI q)) 19 = nI L := h.2.2.2.1.1
  have hgoes : X4_goes σ = if nI q < nI L then (ob_ (X4_isLetter c) fun r12 => if r12 = 0 then (ob_ (X4_isDigit c) fun r15 => if r15 = 0 then (if c = 59 then X4_goes_j323 (s_I σ2 20 (nI q + 1)) else if c = 40 then X4_goes_j323 (s_I σ2 20 (nI q + 1)) else if c = 41 then X4_goes_j323 (s_I σ2 20 (nI q + 1)) else if c = 43 then X4_goes_j323 (s_I σ2 20 (nI q + 1)) else if c = 45 then X4_goes_j323 (s_I σ2 20 (nI q + 1)) else if c = 42 then X4_goes_j323 (s_I σ2 20 (nI q + 1)) else if c = 47 then X4_goes_j323 (s_I σ2 20 (nI q + 1)) else if c = 60 then X4_goes_j323 (s_I σ2 20 (nI q + 1)) else if c = 61 then X4_goes_j323 (s_I σ2 20 (nI q + 1)) else X4_goes_j328 4 (s_I σ2 20 (nI q + 1))) else (ob_ (lp_ (fun a => X4_goes_b187 a) fu_ σ2) fun e35 => X4_goes_j331 (s_I e35 21 2))) else (ob_ (lp_ (fun a => X4_goes_b108 a) fu_ σ2) fun e44 => X4_goes_j331 (s_I e44 21 1))) else X4_goes_j331 (s_I σ2 21 0) := by
    have m20 : m_I (s_I σ 20 (nI q)) 20 = nI q := by rw [rI_sI, if_pos rfl]
    unfold X4_goes
    rw [s2, e_ob, m19, m20, ← hσ1, byteAt_l hT1 (by omega), e_ob, ← hc, ← hσ2]
  have hnext : X5_next rd g = if (if L ≤ q then (-1 : Int32) else nI (tx q)) = (-1) then X5_next_j185 rd (pI g1 rd 9 0) else (ob_ (X5_isLetter rd g1) fun r15 => if r15 = 0 then (ob_ (X5_isDigit rd g1) fun r18 => if r18 = 0 then (ob_ (X5_here rd g1) fun r21 => rk_ g1 (gS g1 23) 200 <| ob_ (J8_indexOf (gS g1 23) r21 g1) fun r24 => if r24 < 0 then X5_next_j172 rd rd 4 g1 else X5_next_j172 rd rd 3 g1) else (ob_ (lp_ (fun a => X5_next_b102 rd a) fu_ (pI g1 rd 12 0)) fun e38 => wk_ e38 rd 4 <| X5_next_j185 rd (pI e38 rd 9 2))) else (ob_ (lp_ (fun a => X5_next_b62 rd a) fu_ g1) fun e44 => wk_ e44 rd 4 <| X5_next_j185 rd (pI e44 rd 9 1))) := by
    have m8 : gI (pI g rd 8 (nI q)) rd 8 = nI q := by rw [I_pI, if_pos ⟨rfl, rfl⟩]
    unfold X5_next
    rw [s1, e_ob, e_wk (by exact h.1.1), m8, ← hg1, here_l hT1 g8 (by omega), e_ob]
  have hSig1 : LitP g1 ρ (gS g1 23) sig_ := by
    rw [F1.S]
    exact hSig.to F1 Ag.rf (fun k _ k1 k2 => by rw [k2, h.1.2.1] at k1; cases k1)
  by_cases hq : L ≤ q
  · have hqL : q = L := by omega
    subst hqL
    rw [if_pos (Nat.le_refl _)] at hc
    rw [if_pos (Nat.le_refl _), if_pos rfl] at hnext
    rw [if_neg (nI_nlt (Nat.le_refl _) (by omega))] at hgoes
    have m2 : m_I (s_I σ2 21 0) 20 = nI q := by rw [hσ2]; exact e20
    have m3 : m_I (s_I σ2 21 0) 22 = nI q := by rw [hσ2]; exact e22
    refine ⟨pI (pI g1 rd 9 0) rd 11 (nI q), s_I (s_I σ2 21 0) 23 (nI q - nI q), q, q, 0, ?_, ?_, ?_, fun i hi => by rw [pI_keep hi (by omega), pI_keep hi (by omega), I1 i hi], by rw [hg1]; rfl, by rw [hg1]; rfl, ?_, ⟨⟨?_, ?_, ?_, ?_⟩, ⟨?_, ?_, ?_, ?_⟩, ⟨Nat.le_refl _, Nat.le_refl _⟩, Or.inl ⟨rfl, rfl, rfl⟩⟩, q1, ?_⟩
    · rw [hnext]
      unfold X5_next_j185
      rw [e_wk (by exact hT1.1.1), I_pI, if_neg (by rintro ⟨-, k⟩; cases k), g8]
    · rw [hgoes]
      unfold X4_goes_j331
      rw [m2, m3]
    · exact (F1.trans (Fr.pI (W := fun q => q = rd) rfl) (fun _ _ k => k)).trans (Fr.pI (W := fun q => q = rd) rfl) (fun _ _ k => k)
    · exact (hM2.trans (Mf.sI (LI := [21]) (LA := []) (by decide)) (by decide) (fun _ k => k)).trans (Mf.sI (LI := [23]) (LA := []) (by decide)) (by decide) (fun _ k => k)
    · rw [I_pI, if_neg (by rintro ⟨-, k⟩; cases k), I_pI, if_neg (by rintro ⟨-, k⟩; cases k), g8]
    · rw [I_pI, if_neg (by rintro ⟨-, k⟩; cases k), I_pI, if_pos ⟨rfl, rfl⟩]; rfl
    · rw [I_pI, if_neg (by rintro ⟨-, k⟩; cases k), I_pI, if_neg (by rintro ⟨-, k⟩; cases k), g10]
    · rw [I_pI, if_pos ⟨rfl, rfl⟩]
    · exact m2
    · rfl
    · exact m3
    · rw [Nat.sub_self, rI_sI, if_pos rfl, Int32.sub_self]; rfl
    · exact ((hT2.put (k := 9) (σ' := s_I (s_I σ2 21 0) 23 (nI q - nI q)) (by decide) rfl rfl).put (by decide) rfl rfl)
  · rw [if_neg hq] at hc
    have hne1 : ¬ nI (tx q) = -1 := by rw [i_eq, i_n (by omega), k_n1]; omega
    rw [if_neg hq, if_neg hne1, X5_isLetter_l hT1 g8 (by omega), X5_isDigit_l hT1 g8 (by omega), e_ob, e_ob, here_l hT1 g8 (by omega), if_neg hq, e_ob] at hnext
    rw [if_pos (nI_lt (by omega) (by omega)), hc, X4_isLetter_l h255, X4_isDigit_l h255, e_ob, e_ob] at hgoes
    have hqL : q < L := by omega
    have e20' : m_I σ2 20 = nI q := by rw [hσ2]; exact e20
    have e22' : m_I σ2 22 = nI q := by rw [hσ2]; exact e22
    have e24' : m_I σ2 24 = 0 := by rw [hσ2]; exact e24
    have e25' : m_I σ2 25 = nI (tx q) := by rw [hσ2, ← hc]; rfl
    have eL' : m_L σ2 = 0 := by rw [hσ2]; exact eL
    have hsub : ∀ e, q ≤ e → e ≤ L → nI e - nI q = nI (e - q) := fun e k1 k2 => by
      rw [i_eq, i_sub (by rw [i_n (by omega), i_n (by omega)]; omega) (by rw [i_n (by omega), i_n (by omega)]; omega), i_n (by omega), i_n (by omega), i_n (by omega)]
      omega
    have n8 : ∀ k, k ≠ 8 → ∀ (gg : GS) v, gI (pI gg rd k v) rd 8 = gI gg rd 8 := fun k hk gg v => by rw [I_pI, if_neg (by rintro ⟨-, z⟩; exact hk z.symm)]
    by_cases hlet : isL_ (tx q) = true
    · rw [if_pos (show q < L ∧ isL_ (tx q) = true from ⟨hqL, hlet⟩), if_neg nn01] at hnext
      rw [if_pos hlet, if_neg nn01] at hgoes
      obtain ⟨e, σ3, u1, u2, u3, u4, u5, u6, u7, u8⟩ := pass_l hT2 g8 e20' e22' eL' hqL (isL_t.mp hlet)
      refine ⟨pI (pI (pI g1 rd 8 (nI e)) rd 9 1) rd 11 (nI e), s_I (s_I σ3 21 1) 23 (nI (e - q)), q, e, 1, ?_, ?_, ?_, fun i hi => by rw [pI_keep hi (by omega), pI_keep hi (by omega), pI_keep hi (by omega), I1 i hi], by rw [hg1]; rfl, by rw [hg1]; rfl, ?_, ⟨⟨?_, ?_, ?_, ?_⟩, ⟨?_, ?_, ?_, ?_⟩, ⟨by omega, u6⟩, Or.inr (Or.inl ⟨rfl, u5, u7, u8⟩)⟩, q1, ?_⟩
      · rw [hnext, u1, e_ob, e_wk (by exact hT1.1.1)]
        unfold X5_next_j185
        rw [e_wk (by exact hT1.1.1), n8 9 (by decide), I_pI, if_pos ⟨rfl, rfl⟩]
      · rw [hgoes, u2, e_ob]
        unfold X4_goes_j331
        rw [rI_sI, if_neg (by decide), rI_sI, if_neg (by decide), u4, u3.I (by decide), e22', hsub e (by omega) u6]
      · exact ((F1.trans (Fr.pI (W := fun q => q = rd) rfl) (fun _ _ k => k)).trans (Fr.pI (W := fun q => q = rd) rfl) (fun _ _ k => k)).trans (Fr.pI (W := fun q => q = rd) rfl) (fun _ _ k => k)
      · exact ((hM2.trans u3 (by decide) (fun _ k => k)).trans (Mf.sI (LI := [21]) (LA := []) (by decide)) (by decide) (fun _ k => k)).trans (Mf.sI (LI := [23]) (LA := []) (by decide)) (by decide) (fun _ k => k)
      · rw [n8 11 (by decide), n8 9 (by decide), I_pI, if_pos ⟨rfl, rfl⟩]
      · rw [I_pI, if_neg (by rintro ⟨-, k⟩; cases k), I_pI, if_pos ⟨rfl, rfl⟩]; rfl
      · rw [I_pI, if_neg (by rintro ⟨-, k⟩; cases k), I_pI, if_neg (by rintro ⟨-, k⟩; cases k), I_pI, if_neg (by rintro ⟨-, k⟩; cases k), g10]
      · rw [I_pI, if_pos ⟨rfl, rfl⟩]
      · exact u4
      · rfl
      · show m_I σ3 22 = _
        rw [u3.I (by decide), e22']
      · rfl
      · exact ((hT2.put (k := 8) (σ' := s_I (s_I σ3 21 1) 23 (nI (e - q))) (by decide) (show m_I σ3 19 = _ from u3.I (by decide)) (show m_A σ3 14 = _ from u3.Af (by decide))).put (by decide) rfl rfl).put (by decide) rfl rfl
    · rw [if_neg (show ¬ (q < L ∧ isL_ (tx q) = true) from fun k => hlet k.2), if_pos rfl] at hnext
      rw [if_neg hlet, if_pos rfl] at hgoes
      by_cases hdig : isD_ (tx q) = true
      · rw [if_pos (show q < L ∧ isD_ (tx q) = true from ⟨hqL, hdig⟩), if_neg nn01] at hnext
        rw [if_pos hdig, if_neg nn01] at hgoes
        have hTd : TxP (pI g1 rd 12 0) ρ rd a tp L tx σ2 := hT2.put (by decide) rfl rfl
        obtain ⟨e, w, σ3, u1, u2, u3, u4, u5, u6, u7⟩ := digs_l hTd (by rw [n8 12 (by decide), g8]) (by rw [I_pI, if_pos ⟨rfl, rfl⟩]) e20' e22' e24' hqL (isD_t.mp hdig)
        rw [pI_pI] at u1
        refine ⟨pI (pI (pI (pI g1 rd 12 w) rd 8 (nI e)) rd 9 2) rd 11 (nI e), s_I (s_I σ3 21 2) 23 (nI (e - q)), q, e, 2, ?_, ?_, ?_, fun i hi => by rw [pI_keep hi (by omega), pI_keep hi (by omega), pI_keep hi (by omega), pI_keep hi (by omega), I1 i hi], by rw [hg1]; rfl, by rw [hg1]; rfl, ?_, ⟨⟨?_, ?_, ?_, ?_⟩, ⟨?_, ?_, ?_, ?_⟩, ⟨by omega, u6⟩, Or.inr (Or.inr (Or.inl ⟨rfl, u5, fun k => ?_⟩))⟩, q1, ?_⟩
        · rw [hnext, u1, e_ob, e_wk (by exact hT1.1.1)]
          unfold X5_next_j185
          rw [e_wk (by exact hT1.1.1), n8 9 (by decide), I_pI, if_pos ⟨rfl, rfl⟩]
        · rw [hgoes, u2, e_ob]
          unfold X4_goes_j331
          rw [rI_sI, if_neg (by decide), rI_sI, if_neg (by decide), u4, u3.I (by decide), e22', hsub e (by omega) u6]
        · exact (((F1.trans (Fr.pI (W := fun q => q = rd) rfl) (fun _ _ k => k)).trans (Fr.pI (W := fun q => q = rd) rfl) (fun _ _ k => k)).trans (Fr.pI (W := fun q => q = rd) rfl) (fun _ _ k => k)).trans (Fr.pI (W := fun q => q = rd) rfl) (fun _ _ k => k)
        · exact ((hM2.trans u3 (by decide) (fun _ k => k)).trans (Mf.sI (LI := [21]) (LA := []) (by decide)) (by decide) (fun _ k => k)).trans (Mf.sI (LI := [23]) (LA := []) (by decide)) (by decide) (fun _ k => k)
        · rw [n8 11 (by decide), n8 9 (by decide), I_pI, if_pos ⟨rfl, rfl⟩]
        · rw [I_pI, if_neg (by rintro ⟨-, k⟩; cases k), I_pI, if_pos ⟨rfl, rfl⟩]; rfl
        · rw [I_pI, if_neg (by rintro ⟨-, k⟩; cases k), I_pI, if_neg (by rintro ⟨-, k⟩; cases k), I_pI, if_neg (by rintro ⟨-, k⟩; cases k), I_pI, if_neg (by rintro ⟨-, k⟩; cases k), g10]
        · rw [I_pI, if_pos ⟨rfl, rfl⟩]
        · exact u4
        · rfl
        · show m_I σ3 22 = _
          rw [u3.I (by decide), e22']
        · rfl
        · obtain ⟨n, z1, z2, z3⟩ := u7 k
          refine ⟨n, z1, ?_, z3⟩
          rw [I_pI, if_neg (by rintro ⟨-, k⟩; cases k), I_pI, if_neg (by rintro ⟨-, k⟩; cases k), I_pI, if_neg (by rintro ⟨-, k⟩; cases k), I_pI, if_pos ⟨rfl, rfl⟩, z2]
        · exact ((((hT2.put (k := 12) (σ' := s_I (s_I σ3 21 2) 23 (nI (e - q))) (by decide) (show m_I σ3 19 = _ from u3.I (by decide)) (show m_A σ3 14 = _ from u3.Af (by decide))).put (by decide) rfl rfl).put (by decide) rfl rfl).put (by decide) rfl rfl)
      · rw [if_neg (show ¬ (q < L ∧ isD_ (tx q) = true) from fun k => hdig k.2), if_pos rfl] at hnext
        rw [if_neg hdig, if_pos rfl, sigif h255] at hgoes
        obtain ⟨r, v1, v2⟩ := J8_indexOf_l hSig1 (by decide) (by decide) (by decide) h255
        rw [e_rk (by obtain ⟨b, z, -⟩ := hSig1.fct; exact z), v1, e_ob] at hnext
        -- both endings
        have fin : ∀ kd : Nat, (kd = 3 ∧ tx q ∈ sig_ ∨ kd = 4) → X5_next rd g = X5_next_j172 rd rd (nI kd) g1 → X4_goes σ = X4_goes_j328 (nI kd) (s_I σ2 20 (nI q + 1)) → ∃ g' σ' b e kd, X5_next rd g = some g' ∧ X4_goes σ = some σ' ∧ Fr (fun q => q = rd) g g' ∧ (∀ i, i < 8 ∨ 13 ≤ i → gI g' rd i = gI g rd i) ∧ gR g' = gR g ∧ gz g' = gz g ∧ Mf [20, 21, 22, 23, 24, 25] [] σ σ' ∧ TokP g' rd L tx b e kd σ' ∧ p ≤ b ∧ TxP g' ρ rd a tp L tx σ' := by
          intro kd hkd x1 x2
          refine ⟨pI (pI (pI g1 rd 9 (nI kd)) rd 8 (nI (q + 1))) rd 11 (nI (q + 1)), s_I (s_I (s_I σ2 20 (nI (q + 1))) 21 (nI kd)) 23 (nI (q + 1 - q)), q, q + 1, kd, ?_, ?_, ?_, fun i hi => by rw [pI_keep hi (by omega), pI_keep hi (by omega), pI_keep hi (by omega), I1 i hi], by rw [hg1]; rfl, by rw [hg1]; rfl, ?_, ⟨⟨?_, ?_, ?_, ?_⟩, ⟨rfl, rfl, e22', rfl⟩, ⟨by omega, by omega⟩, ?_⟩, q1, ?_⟩
          · rw [x1]
            unfold X5_next_j172 X5_next_j185
            rw [e_wk hT1.1.1, e_wk (by exact hT1.1.1), e_wk (by exact hT1.1.1), n8 9 (by decide), g8, nI_1, I_pI, if_pos ⟨rfl, rfl⟩]
          · rw [x2]
            unfold X4_goes_j328 X4_goes_j331
            rw [nI_1, rI_sI, if_neg (by decide), rI_sI, if_pos rfl, rI_sI, if_neg (by decide), rI_sI, if_neg (by decide), e22', hsub (q + 1) (by omega) (by omega)]
          · exact ((F1.trans (Fr.pI (W := fun q => q = rd) rfl) (fun _ _ k => k)).trans (Fr.pI (W := fun q => q = rd) rfl) (fun _ _ k => k)).trans (Fr.pI (W := fun q => q = rd) rfl) (fun _ _ k => k)
          · exact ((hM2.trans (Mf.sI (LI := [20]) (LA := []) (by decide)) (by decide) (fun _ k => k)).trans (Mf.sI (LI := [21]) (LA := []) (by decide)) (by decide) (fun _ k => k)).trans (Mf.sI (LI := [23]) (LA := []) (by decide)) (by decide) (fun _ k => k)
          · rw [n8 11 (by decide), I_pI, if_pos ⟨rfl, rfl⟩]
          · rw [I_pI, if_neg (by rintro ⟨-, k⟩; cases k), I_pI, if_neg (by rintro ⟨-, k⟩; cases k), I_pI, if_pos ⟨rfl, rfl⟩]
          · rw [I_pI, if_neg (by rintro ⟨-, k⟩; cases k), I_pI, if_neg (by rintro ⟨-, k⟩; cases k), I_pI, if_neg (by rintro ⟨-, k⟩; cases k), g10]
          · rw [I_pI, if_pos ⟨rfl, rfl⟩]
          · rcases hkd with ⟨rfl, hm⟩ | rfl
            · exact Or.inr (Or.inr (Or.inr (Or.inl ⟨rfl, rfl, hm, e25'⟩)))
            · exact Or.inr (Or.inr (Or.inr (Or.inr ⟨rfl, rfl⟩)))
          · exact ((hT2.put (k := 9) (σ' := s_I (s_I (s_I σ2 20 (nI (q + 1))) 21 (nI kd)) 23 (nI (q + 1 - q))) (by decide) rfl rfl).put (by decide) rfl rfl).put (by decide) rfl rfl
        by_cases hm : tx q ∈ sig_
        · rw [if_neg (fun k => (v2.mp k) hm)] at hnext
          rw [if_pos hm] at hgoes
          exact fin 3 (Or.inl ⟨rfl, hm⟩) hnext hgoes
        · rw [if_pos (v2.mpr hm)] at hnext
          rw [if_neg hm] at hgoes
          exact fin 4 (Or.inr rfl) hnext hgoes
