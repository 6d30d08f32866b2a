/-! LAWS: what is asked of a take (own work) -/
set_option maxRecDepth 100000
def it_ {α : Type} (F : Nat → α → α) (s : α) : Nat → α
  | 0 => s
  | t + 1 => F t (it_ F s t)
/-- a loop over t = 0 .. T -/
theorem for_l {α β ε : Type} (enc : α → Nat → β) (body : β → Option (β ⊕ ε)) (T : Nat) (F : Nat → α → α) (ex : α → ε) (P : Nat → α → Prop) (hP : ∀ t s, t ≤ T → P t s → P (t + 1) (F t s))
    (hs : ∀ t s, t ≤ T → P t s → body (enc s t) = some (.inl (enc (F t s) (t + 1)))) (he : ∀ s, P (T + 1) s → body (enc s (T + 1)) = some (.inr (ex s))) (s : α) (h0 : P 0 s) {n : Nat} (hn : T + 1 < n) : lp_ body n (enc s 0) = some (ex (it_ F s (T + 1))) ∧ P (T + 1) (it_ F s (T + 1)) := by
  have key : ∀ t, t ≤ T + 1 → LS_ body t (enc s 0) (enc (it_ F s t) t) ∧ P t (it_ F s t) := by
    intro t
    induction t with
    | zero => intro _; exact ⟨LS_.rf, h0⟩
    | succ t ih =>
      intro ht
      obtain ⟨h1, h2⟩ := ih (by omega)
      exact ⟨h1.trans (LS_.one (hs t _ (by omega) h2)), hP t _ (by omega) h2⟩
  obtain ⟨h1, h2⟩ := key (T + 1) (Nat.le_refl _)
  obtain ⟨f, rfl⟩ : ∃ f, n = (f + 1) + (T + 1) := ⟨n - 1 - (T + 1), by omega⟩
  rw [h1 (f + 1)]
  exact ⟨lp_end (he _ h2) f, h2⟩
/-- an allocating loop that allocates nothing -/
theorem fora_l {α β ε : Type} (enc : α → Nat → β) (body : β → Option ((β ⊕ ε) × Nat × Nat)) (T : Nat) (F : Nat → α → α) (ex : α → ε) (P : Nat → α → Prop) (hP : ∀ t s, t ≤ T → P t s → P (t + 1) (F t s))
    (hs : ∀ t s, t ≤ T → P t s → body (enc s t) = some (.inl (enc (F t s) (t + 1)), 0, 0)) (he : ∀ s, P (T + 1) s → body (enc s (T + 1)) = some (.inr (ex s), 0, 0)) (s : α) (h0 : P 0 s) {n : Nat} (hn : T + 1 < n) : la_ body n (enc s 0) = some (ex (it_ F s (T + 1)), 0, 0) ∧ P (T + 1) (it_ F s (T + 1)) := by
  have key : ∀ d t, t + d = T + 1 → P t (it_ F s t) → ∀ f, d < f → la_ body f (enc (it_ F s t) t) = some (ex (it_ F s (T + 1)), 0, 0) ∧ P (T + 1) (it_ F s (T + 1)) := by
    intro d
    induction d with
    | zero =>
      intro t ht hp f hf
      have : t = T + 1 := by omega
      subst this
      obtain ⟨f', rfl⟩ : ∃ f', f = f' + 1 := ⟨f - 1, by omega⟩
      refine ⟨?_, hp⟩
      rw [la_, he _ hp]
    | succ d ih =>
      intro t ht hp f hf
      obtain ⟨f', rfl⟩ : ∃ f', f = f' + 1 := ⟨f - 1, by omega⟩
      obtain ⟨h1, h2⟩ := ih (t + 1) (by omega) (hP t _ (by omega) hp) f' (by omega)
      refine ⟨?_, h2⟩
      rw [la_, hs t _ (by omega) hp]
      show bp_ 0 0 (la_ body f' (enc (it_ F s (t + 1)) (t + 1))) = _
      rw [bp_0, h1]
  exact key (T + 1) 0 (by omega) h0 n hn
/-- what the questions look at: the take's off, and how long the scene is -/
def OfP (g : GS) (u oa T : Nat) (f : Nat → Int32) : Prop := gK g u = 10 ∧ (∃ a sc, gR g u 7 = a + 1 ∧ gK g a = 1 ∧ gR g a 0 = sc + 1 ∧ gK g sc = 2 ∧ gI g sc 6 = nI T) ∧ T ≤ 600 ∧ gR g u 3 = oa + 1 ∧ gK g oa = 100 ∧ gN g oa = 601 ∧ ∀ t, t ≤ T → gI g oa t = f t
def LaP (σ : MS) (n T : Nat) : Prop := m_I σ 2 = nI n ∧ n ≤ 12 ∧ sm_ (m_A σ 9) n = nI T ∧ T ≤ 600
theorem LaP.l {σ : MS} {n T : Nat} (h : LaP σ n T) : X4_last σ = some (nI T) := by rw [X4_last_l h.1 h.2.1, h.2.2.1]
def sh_ (hole v : Int32) : Int32 := if hole < jabs_ v then 0 else 1
theorem sh_01 {hole v : Int32} : sh_ hole v = 0 ∨ sh_ hole v = 1 := by
  unfold sh_
  split
  · exact Or.inl rfl
  · exact Or.inr rfl
theorem X11_isSharp_l {g : GS} {u oa T : Nat} {f : Nat → Int32} (h : OfP g u oa T f) {t : Nat} (ht : t ≤ T) {hole : Int32} : X11_isSharp u (nI t) hole g = some (sh_ hole (f t)) := by
  obtain ⟨h1, -, h3, h4, h5, h6, h7⟩ := h
  unfold X11_isSharp sh_
  rw [e_wk h1, h4, e_nn, e_rk (by rw [h5]), e_inN (by rw [h6]; omega) (by rw [h6]; omega), nI_clamp (by omega), h7 t ht]
  split <;> rfl
theorem X11_isSharp2_l {g : GS} {u oa T x : Nat} {f : Nat → Int32} (h : OfP g u oa T f) (hx : gR g u 0 = x + 1) (hk : gK g x = 3) {t : Nat} (ht : t ≤ T) : X11_isSharp_2 u (nI t) g = some (sh_ (gI g x 0) (f t)) := by
  unfold X11_isSharp_2
  rw [e_wk h.1, hx, e_nn, e_wk hk, X11_isSharp_l h ht, e_ob]
  rcases sh_01 (hole := gI g x 0) (v := f t) with q | q <;> rw [q] <;> rfl
theorem off0_l {v : Int32} : X4_off v 0 = some (jabs_ v) := by
  unfold X4_off jabs_
  split
  · rw [Int32.sub_zero]
  · rfl
theorem X4_isSharp_l {σ : MS} {t : Nat} (ht : t ≤ 600) : X4_isSharp (nI t) σ = some (sh_ (m_A σ 53 0) (m_A σ 63 t)) := by
  unfold X4_isSharp sh_
  rw [e_inN (by omega) (by omega), nI_clamp (by omega), off0_l, e_ob, e_i0 (by omega) (by omega), cl_0]
  split <;> rfl
/-! how many are sharp -/
def cF (f : Nat → Int32) (hole : Int32) : Nat → Int32 → Int32 := fun t c => c + sh_ hole (f t)
def cnt_ (f : Nat → Int32) (hole : Int32) (T : Nat) : Int32 := it_ (cF f hole) 0 (T + 1)
theorem cnt_rg {f : Nat → Int32} {hole : Int32} : ∀ t, t ≤ 2000 → 0 ≤ (it_ (cF f hole) 0 t).toInt ∧ (it_ (cF f hole) 0 t).toInt ≤ t := by
  intro t
  induction t with
  | zero => intro _; exact ⟨Int.le_refl 0, Int.le_refl 0⟩
  | succ t ih =>
    intro ht
    have h1 := ih (by omega)
    show 0 ≤ (it_ (cF f hole) 0 t + sh_ hole (f t)).toInt ∧ _
    have h2 : 0 ≤ (sh_ hole (f t)).toInt ∧ (sh_ hole (f t)).toInt ≤ 1 := by
      rcases sh_01 (hole := hole) (v := f t) with q | q <;> rw [q] <;> decide
    have e : (it_ (cF f hole) 0 (t + 1)).toInt = (it_ (cF f hole) 0 t).toInt + (sh_ hole (f t)).toInt := i_add (by omega) (by omega)
    rw [e]
    have e' : (it_ (cF f hole) 0 t + sh_ hole (f t)).toInt = (it_ (cF f hole) 0 t).toInt + (sh_ hole (f t)).toInt := i_add (by omega) (by omega)
    rw [e']
    omega
theorem X11_sharp2_l {g : GS} {u oa T : Nat} {f : Nat → Int32} (h : OfP g u oa T f) {hole : Int32} : X11_sharp_2 u hole g = some (cnt_ f hole T) := by
  have h0 := h
  obtain ⟨h1, ⟨a, sc, a1, a2, a3, a4, a5⟩, h3, h4⟩ := h
  obtain ⟨k1, -⟩ := for_l (enc := fun (c : Int32) t => (c, nI t)) (fun a : Int32 × Int32 => X11_sharp_2_b4 u hole g a.1 a.2) T (cF f hole) (fun c => c) (fun _ _ => True) (fun _ _ _ _ => trivial)
    (fun t c ht _ => by
      show X11_sharp_2_b4 u hole g c (nI t) = _
      unfold X11_sharp_2_b4 X11_sharp_2_j30
      rw [e_wk h1, a1, e_nn, e_wk a2, a3, e_nn, e_wk a4, a5, if_neg (nI_nlt ht (by omega)), X11_isSharp_l h0 ht, e_ob]
      show _ = some (Sum.inl (c + sh_ hole (f t), nI (t + 1)))
      rcases sh_01 (hole := hole) (v := f t) with q | q
      · rw [q, if_pos rfl, Int32.add_zero, nI_1]
      · rw [q, if_neg (by decide), nI_1])
    (fun c _ => by
      show X11_sharp_2_b4 u hole g c (nI (T + 1)) = _
      unfold X11_sharp_2_b4
      rw [e_wk h1, a1, e_nn, e_wk a2, a3, e_nn, e_wk a4, a5, if_pos (nI_lt (by omega) (by omega))]) 0 trivial (n := fu_) (by unfold fu_; omega)
  unfold X11_sharp_2
  rw [show (lp_ (fun a : Int32 × Int32 => X11_sharp_2_b4 u hole g a.1 a.2) fu_ (0, 0)) = _ from k1, e_ob]
  rfl
theorem X11_sharp_l {g : GS} {u oa T x : Nat} {f : Nat → Int32} (h : OfP g u oa T f) (hx : gR g u 0 = x + 1) (hk : gK g x = 3) : X11_sharp u g = some (cnt_ f (gI g x 0) T) := by
  unfold X11_sharp
  rw [e_wk h.1, hx, e_nn, e_wk hk, X11_sharp2_l h, e_ob]
theorem X4_sharpMany_l {σ : MS} {n T : Nat} (h : LaP σ n T) : X4_sharpMany σ = some (cnt_ (m_A σ 63) (m_A σ 53 0) T) := by
  have hT := h.2.2.2
  obtain ⟨k1, -⟩ := for_l (enc := fun (c : Int32) t => (c, nI t)) (fun a : Int32 × Int32 => X4_sharpMany_b4 σ a.1 a.2) T (cF (m_A σ 63) (m_A σ 53 0)) (fun c => c) (fun _ _ => True) (fun _ _ _ _ => trivial)
    (fun t c ht _ => by
      show X4_sharpMany_b4 σ c (nI t) = _
      unfold X4_sharpMany_b4 X4_sharpMany_j26
      rw [h.l, e_ob, if_neg (nI_nlt ht (by omega)), X4_isSharp_l (by omega), e_ob]
      show _ = some (Sum.inl (c + sh_ (m_A σ 53 0) (m_A σ 63 t), nI (t + 1)))
      rcases sh_01 (hole := m_A σ 53 0) (v := m_A σ 63 t) with q | q
      · rw [q, if_pos rfl, nI_1]
      · rw [q, if_neg (by decide), nI_1])
    (fun c _ => by
      show X4_sharpMany_b4 σ c (nI (T + 1)) = _
      unfold X4_sharpMany_b4
      rw [h.l, e_ob, if_pos (nI_lt (by omega) (by omega))]) 0 trivial (n := fu_) (by unfold fu_; omega)
  unfold X4_sharpMany
  rw [show (lp_ (fun a : Int32 × Int32 => X4_sharpMany_b4 σ a.1 a.2) fu_ (0, 0)) = _ from k1, e_ob]
  rfl
/-! the worst -/
def wF (f : Nat → Int32) : Nat → Int32 → Int32 := fun t c => jmax_ c (jabs_ (f t))
theorem X11_worst_l {g : GS} {u oa T : Nat} {f : Nat → Int32} (h : OfP g u oa T f) : X11_worst u g = some (it_ (wF f) 0 (T + 1)) := by
  obtain ⟨h1, ⟨a, sc, a1, a2, a3, a4, a5⟩, h3, h4, h5, h6, h7⟩ := h
  obtain ⟨k1, -⟩ := for_l (enc := fun (c : Int32) t => (c, nI t)) (fun a : Int32 × Int32 => X11_worst_b4 u g a.1 a.2) T (wF f) (fun c => c) (fun _ _ => True) (fun _ _ _ _ => trivial)
    (fun t c ht _ => by
      show X11_worst_b4 u g c (nI t) = _
      unfold X11_worst_b4
      rw [e_wk h1, a1, e_nn, e_wk a2, a3, e_nn, e_wk a4, a5, if_neg (nI_nlt ht (by omega)), h4, e_nn, e_rk (by rw [h5]), e_inN (by rw [h6]; omega) (by rw [h6]; omega), nI_clamp (by omega), h7 t ht, nI_1]
      rfl)
    (fun c _ => by
      show X11_worst_b4 u g c (nI (T + 1)) = _
      unfold X11_worst_b4
      rw [e_wk h1, a1, e_nn, e_wk a2, a3, e_nn, e_wk a4, a5, if_pos (nI_lt (by omega) (by omega))]) 0 trivial (n := fu_) (by unfold fu_; omega)
  unfold X11_worst
  rw [show (lp_ (fun a : Int32 × Int32 => X11_worst_b4 u g a.1 a.2) fu_ (0, 0)) = _ from k1, e_ob]
theorem X4_mostOff_l {σ : MS} {n T : Nat} (h : LaP σ n T) : X4_mostOff σ = some (it_ (wF (m_A σ 63)) 0 (T + 1)) := by
  have hT := h.2.2.2
  obtain ⟨k1, -⟩ := for_l (enc := fun (c : Int32) t => (c, nI t)) (fun a : Int32 × Int32 => X4_mostOff_b4 σ a.1 a.2) T (wF (m_A σ 63)) (fun c => c) (fun _ _ => True) (fun _ _ _ _ => trivial)
    (fun t c ht _ => by
      show X4_mostOff_b4 σ c (nI t) = _
      unfold X4_mostOff_b4 X4_mostOff_j40
      rw [h.l, e_ob, if_neg (nI_nlt ht (by omega)), e_inN (by omega) (by omega), nI_clamp (by omega), off0_l, e_ob]
      show _ = some (Sum.inl (jmax_ c (jabs_ (m_A σ 63 t)), nI (t + 1)))
      unfold jmax_
      by_cases q : jabs_ (m_A σ 63 t) ≤ c
      · rw [if_pos q, if_neg (by rw [nlt_le]; exact q), nI_1]
      · rw [if_neg q, if_pos (nle_lt.mp q), e_inN (by omega) (by omega), e_ob, nI_1])
    (fun c _ => by
      show X4_mostOff_b4 σ c (nI (T + 1)) = _
      unfold X4_mostOff_b4
      rw [h.l, e_ob, if_pos (nI_lt (by omega) (by omega))]) 0 trivial (n := fu_) (by unfold fu_; omega)
  unfold X4_mostOff
  rw [show (lp_ (fun a : Int32 × Int32 => X4_mostOff_b4 σ a.1 a.2) fu_ (0, 0)) = _ from k1, e_ob]
/-! the longest soft run -/
def lF (f : Nat → Int32) (hole : Int32) : Nat → Int32 × Int32 → Int32 × Int32 := fun t c => (jmax_ c.1 (if sh_ hole (f t) = 0 then c.2 + 1 else 0), if sh_ hole (f t) = 0 then c.2 + 1 else 0)
theorem X11_longestSoft_l {g : GS} {u oa T x : Nat} {f : Nat → Int32} (h : OfP g u oa T f) (hx : gR g u 0 = x + 1) (hk : gK g x = 3) : X11_longestSoft u g = some (it_ (lF f (gI g x 0)) (0, 0) (T + 1)).1 := by
  have h0 := h
  obtain ⟨h1, ⟨a, sc, a1, a2, a3, a4, a5⟩, h3, h4⟩ := h
  obtain ⟨k1, -⟩ := for_l (enc := fun (c : Int32 × Int32) t => (c.1, c.2, nI t)) (fun a : Int32 × Int32 × Int32 => X11_longestSoft_b6 u g a.1 a.2.1 a.2.2) T (lF f (gI g x 0)) (fun c => c.1) (fun _ _ => True) (fun _ _ _ _ => trivial)
    (fun t c ht _ => by
      show X11_longestSoft_b6 u g c.1 c.2 (nI t) = _
      unfold X11_longestSoft_b6 X11_longestSoft_j35
      rw [e_wk h1, a1, e_nn, e_wk a2, a3, e_nn, e_wk a4, a5, if_neg (nI_nlt ht (by omega)), X11_isSharp2_l h0 hx hk ht, e_ob]
      show _ = some (Sum.inl ((lF f (gI g x 0) t c).1, (lF f (gI g x 0) t c).2, nI (t + 1)))
      unfold lF
      rcases sh_01 (hole := gI g x 0) (v := f t) with q | q
      · rw [q, if_pos rfl, if_pos rfl, nI_1]
      · rw [q, if_neg (by decide), if_neg (by decide), nI_1])
    (fun c _ => by
      show X11_longestSoft_b6 u g c.1 c.2 (nI (T + 1)) = _
      unfold X11_longestSoft_b6
      rw [e_wk h1, a1, e_nn, e_wk a2, a3, e_nn, e_wk a4, a5, if_pos (nI_lt (by omega) (by omega))]) (0, 0) trivial (n := fu_) (by unfold fu_; omega)
  unfold X11_longestSoft
  rw [show (lp_ (fun a : Int32 × Int32 × Int32 => X11_longestSoft_b6 u g a.1 a.2.1 a.2.2) fu_ (0, 0, 0)) = _ from k1, e_ob]
theorem X4_longestSoft_l {σ : MS} {n T : Nat} (h : LaP σ n T) : X4_longestSoft σ = some (it_ (lF (m_A σ 63) (m_A σ 53 0)) (0, 0) (T + 1)).1 := by
  have hT := h.2.2.2
  obtain ⟨k1, -⟩ := for_l (enc := fun (c : Int32 × Int32) t => (c.1, c.2, nI t)) (fun a : Int32 × Int32 × Int32 => X4_longestSoft_b6 σ a.1 a.2.1 a.2.2) T (lF (m_A σ 63) (m_A σ 53 0)) (fun c => c.1) (fun _ _ => True) (fun _ _ _ _ => trivial)
    (fun t c ht _ => by
      show X4_longestSoft_b6 σ c.1 c.2 (nI t) = _
      have e : ∀ w, X4_longestSoft_j29 c.1 (nI t) w σ = some (.inl (jmax_ c.1 w, w, nI (t + 1))) := fun w => by
        unfold X4_longestSoft_j29 X4_longestSoft_j40 jmax_
        by_cases q : w ≤ c.1
        · rw [if_pos q, if_neg (by rw [nlt_le]; exact q), nI_1]
        · rw [if_neg q, if_pos (nle_lt.mp q), nI_1]
      unfold X4_longestSoft_b6
      rw [h.l, e_ob, if_neg (nI_nlt ht (by omega)), X4_isSharp_l (by omega), e_ob, e, e]
      show _ = some (Sum.inl ((lF (m_A σ 63) (m_A σ 53 0) t c).1, (lF (m_A σ 63) (m_A σ 53 0) t c).2, nI (t + 1)))
      unfold lF
      split <;> rfl)
    (fun c _ => by
      show X4_longestSoft_b6 σ c.1 c.2 (nI (T + 1)) = _
      unfold X4_longestSoft_b6
      rw [h.l, e_ob, if_pos (nI_lt (by omega) (by omega))]) (0, 0) trivial (n := fu_) (by unfold fu_; omega)
  unfold X4_longestSoft
  rw [show (lp_ (fun a : Int32 × Int32 × Int32 => X4_longestSoft_b6 σ a.1 a.2.1 a.2.2) fu_ (0, 0, 0)) = _ from k1, e_ob]
