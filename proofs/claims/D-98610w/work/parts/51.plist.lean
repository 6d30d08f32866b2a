/-! LAWS: frames, lists (own work) -/
set_option maxRecDepth 100000
/-- from g to g': no cell of g but those of W has changed -/
def Fr (W : Nat → Prop) (g g' : GS) : Prop := gz g ≤ gz g' ∧ gS g' = gS g ∧ (∀ q, q < gz g → gK g' q = gK g q ∧ gN g' q = gN g q) ∧ ∀ q, q < gz g → ¬ W q → (∀ i, gI g' q i = gI g q i) ∧ ∀ i, gR g' q i = gR g q i
/-- roles of the cells of g are as they were -/
def Ag (g : GS) (ρ ρ' : Nat → Nat) : Prop := ∀ q, q < gz g → ρ' q = ρ q
/-- all that is new has role r -/
def nr (ρ : Nat → Nat) (g : GS) (r : Nat) : Nat → Nat := fun q => if gz g ≤ q then r else ρ q
def no_ : Nat → Prop := fun _ => False
theorem nr_lt {ρ : Nat → Nat} {g : GS} {r q : Nat} (h : q < gz g) : nr ρ g r q = ρ q := if_neg (by omega)
theorem nr_ge {ρ : Nat → Nat} {g : GS} {r q : Nat} (h : gz g ≤ q) : nr ρ g r q = r := if_pos h
theorem nr_ag {ρ : Nat → Nat} {g : GS} {r : Nat} : Ag g ρ (nr ρ g r) := fun _ h => nr_lt h
theorem Ag.rf {g : GS} {ρ : Nat → Nat} : Ag g ρ ρ := fun _ _ => rfl
theorem Ag.trans {g g1 : GS} {ρ ρ1 ρ2 : Nat → Nat} (h1 : Ag g ρ ρ1) (h2 : Ag g1 ρ1 ρ2) (hz : gz g ≤ gz g1) : Ag g ρ ρ2 := fun q hq => (h2 q (Nat.lt_of_lt_of_le hq hz)).trans (h1 q hq)
theorem Fr.rf {W : Nat → Prop} {g : GS} : Fr W g g := ⟨Nat.le_refl _, rfl, fun _ _ => ⟨rfl, rfl⟩, fun _ _ _ => ⟨fun _ => rfl, fun _ => rfl⟩⟩
theorem Fr.z {W : Nat → Prop} {g g' : GS} (h : Fr W g g') : gz g ≤ gz g' := h.1
theorem Fr.S {W : Nat → Prop} {g g' : GS} (h : Fr W g g') : gS g' = gS g := h.2.1
theorem Fr.K {W : Nat → Prop} {g g' : GS} (h : Fr W g g') {q : Nat} (hq : q < gz g) : gK g' q = gK g q := (h.2.2.1 q hq).1
theorem Fr.N {W : Nat → Prop} {g g' : GS} (h : Fr W g g') {q : Nat} (hq : q < gz g) : gN g' q = gN g q := (h.2.2.1 q hq).2
theorem Fr.I {W : Nat → Prop} {g g' : GS} (h : Fr W g g') {q : Nat} (hq : q < gz g) (hw : ¬ W q) (i : Nat) : gI g' q i = gI g q i := (h.2.2.2 q hq hw).1 i
theorem Fr.R {W : Nat → Prop} {g g' : GS} (h : Fr W g g') {q : Nat} (hq : q < gz g) (hw : ¬ W q) (i : Nat) : gR g' q i = gR g q i := (h.2.2.2 q hq hw).2 i
theorem Fr.lt {W : Nat → Prop} {g g' : GS} (h : Fr W g g') {q : Nat} (hq : q < gz g) : q < gz g' := Nat.lt_of_lt_of_le hq h.1
theorem Fr.trans {W W' : Nat → Prop} {g g1 g2 : GS} (h1 : Fr W g g1) (h2 : Fr W' g1 g2) (h : ∀ q, q < gz g → W' q → W q) : Fr W g g2 := by
  refine ⟨Nat.le_trans h1.1 h2.1, h2.S.trans h1.S, fun q hq => ⟨(h2.K (h1.lt hq)).trans (h1.K hq), (h2.N (h1.lt hq)).trans (h1.N hq)⟩, fun q hq hw => ⟨fun i => ?_, fun i => ?_⟩⟩
  · exact (h2.I (h1.lt hq) (fun k => hw (h q hq k)) i).trans (h1.I hq hw i)
  · exact (h2.R (h1.lt hq) (fun k => hw (h q hq k)) i).trans (h1.R hq hw i)
theorem Fr.mono {W W' : Nat → Prop} {g g' : GS} (h1 : Fr W g g') (h : ∀ q, q < gz g → W q → W' q) : Fr W' g g' := Fr.rf.trans h1 h
theorem Fr.pI {W : Nat → Prop} {g : GS} {a k : Nat} {v : Int32} (h : W a) : Fr W g (pI g a k v) := by
  refine ⟨Nat.le_refl _, rfl, fun _ _ => ⟨rfl, rfl⟩, fun q _ hw => ⟨fun i => ?_, fun _ => rfl⟩⟩
  rw [I_pI, if_neg]
  rintro ⟨rfl, -⟩
  exact hw h
theorem Fr.pR {W : Nat → Prop} {g : GS} {a k v : Nat} (h : W a) : Fr W g (pR g a k v) := by
  refine ⟨Nat.le_refl _, rfl, fun _ _ => ⟨rfl, rfl⟩, fun q _ hw => ⟨fun _ => rfl, fun i => ?_⟩⟩
  rw [R_pR, if_neg]
  rintro ⟨rfl, -⟩
  exact hw h
theorem Fr.nw {W : Nat → Prop} {g : GS} {k n : Nat} : Fr W g (nw_ g k n) := by
  refine ⟨by rw [z_nw]; omega, rfl, fun q hq => ?_, fun q hq _ => ⟨fun i => ?_, fun i => ?_⟩⟩
  · rw [K_nw, N_nw, if_neg (by omega), if_neg (by omega)]; exact ⟨rfl, rfl⟩
  · rw [I_nw, if_neg (by omega)]
  · rw [R_nw, if_neg (by omega)]
theorem Fr.cR {W : Nat → Prop} {g : GS} {a sp b dp n : Nat} (h : W b) : Fr W g (cR_ g a sp b dp n) := by
  refine ⟨Nat.le_refl _, rfl, fun _ _ => ⟨rfl, rfl⟩, fun q _ hw => ⟨fun _ => rfl, fun i => ?_⟩⟩
  rw [R_cR, if_neg]
  rintro ⟨rfl, -⟩
  exact hw h
theorem Fr.cI {W : Nat → Prop} {g : GS} {a sp b dp n : Nat} (h : W b) : Fr W g (cI_ g a sp b dp n) := by
  refine ⟨Nat.le_refl _, rfl, fun _ _ => ⟨rfl, rfl⟩, fun q _ hw => ⟨fun i => ?_, fun _ => rfl⟩⟩
  rw [I_cI, if_neg]
  rintro ⟨rfl, -⟩
  exact hw h
theorem Fr.sk {W : Nat → Prop} {g : GS} {n : Nat} : Fr W g (sk_ g n) := ⟨by rw [z_sk]; omega, rfl, fun _ _ => ⟨rfl, rfl⟩, fun _ _ _ => ⟨fun _ => rfl, fun _ => rfl⟩⟩
/-- the list b, all of whose cells have role r, with its places in the array e: it holds xs -/
def LiPe (g : GS) (ρ : Nat → Nat) (r b e : Nat) (xs : List Nat) : Prop :=
  gK g b = 12 ∧ ρ b = r ∧ b < gz g ∧ gI g b 2 = nI xs.length ∧ gR g b 1 = e + 1 ∧ e < gz g ∧ ((gK g e = 103 ∧ ρ e = r) ∨ (gK g e = 1103 ∧ ρ e = 0 ∧ gN g e = 0)) ∧ xs.length ≤ gN g e ∧ gN g e ≤ 2000 ∧
  ∀ i y, xs[i]? = some y → gR g e i = y + 1 ∧ y < gz g ∧ g_sto (gK g y % 1000) = true
def LiP (g : GS) (ρ : Nat → Nat) (r b : Nat) (xs : List Nat) : Prop := ∃ e, LiPe g ρ r b e xs
theorem LiPe.to' {W : Nat → Prop} {g g' : GS} {ρ ρ' : Nat → Nat} {r b e : Nat} {xs : List Nat} (h : LiPe g ρ r b e xs) (hF : Fr W g g') (hA : ∀ q, q < gz g → ρ q = r ∨ ρ q = 0 → ρ' q = ρ q) (hW : ∀ q, q < gz g → ρ q = r ∨ ρ q = 0 → ¬ W q) : LiPe g' ρ' r b e xs := by
  obtain ⟨h1, h2, h3, h4, h5, h6, h7, h8, h9, h10⟩ := h
  have hb := hW b h3 (Or.inl h2)
  have he : ¬ W e := hW e h6 (by rcases h7 with ⟨_, k⟩ | ⟨_, k, _⟩ <;> simp [k])
  refine ⟨by rw [hF.K h3, h1], by rw [hA b h3 (Or.inl h2), h2], hF.lt h3, by rw [hF.I h3 hb, h4], by rw [hF.R h3 hb, h5], hF.lt h6, ?_, by rw [hF.N h6]; exact h8, by rw [hF.N h6]; exact h9, fun i y hy => ?_⟩
  · rw [hF.K h6, hF.N h6, hA e h6 (by rcases h7 with ⟨_, k⟩ | ⟨_, k, _⟩ <;> simp [k])]; exact h7
  · obtain ⟨k1, k2, k3⟩ := h10 i y hy
    exact ⟨by rw [hF.R h6 he, k1], hF.lt k2, by rw [hF.K k2]; exact k3⟩
theorem LiPe.to {W : Nat → Prop} {g g' : GS} {ρ ρ' : Nat → Nat} {r b e : Nat} {xs : List Nat} (h : LiPe g ρ r b e xs) (hF : Fr W g g') (hA : Ag g ρ ρ') (hW : ∀ q, q < gz g → ρ q = r ∨ ρ q = 0 → ¬ W q) : LiPe g' ρ' r b e xs := h.to' hF (fun q hq _ => hA q hq) hW
theorem LiP.to' {W : Nat → Prop} {g g' : GS} {ρ ρ' : Nat → Nat} {r b : Nat} {xs : List Nat} (h : LiP g ρ r b xs) (hF : Fr W g g') (hA : ∀ q, q < gz g → ρ q = r ∨ ρ q = 0 → ρ' q = ρ q) (hW : ∀ q, q < gz g → ρ q = r ∨ ρ q = 0 → ¬ W q) : LiP g' ρ' r b xs := by
  obtain ⟨e, h⟩ := h
  exact ⟨e, h.to' hF hA hW⟩
theorem LiP.to {W : Nat → Prop} {g g' : GS} {ρ ρ' : Nat → Nat} {r b : Nat} {xs : List Nat} (h : LiP g ρ r b xs) (hF : Fr W g g') (hA : Ag g ρ ρ') (hW : ∀ q, q < gz g → ρ q = r ∨ ρ q = 0 → ¬ W q) : LiP g' ρ' r b xs := by
  obtain ⟨e, h⟩ := h
  exact ⟨e, h.to hF hA hW⟩
/-- other roles' names -/
theorem LiPe.re {g : GS} {ρ ρ' : Nat → Nat} {r r' b e : Nat} {xs : List Nat} (h : LiPe g ρ r b e xs) (h1 : ∀ q, q < gz g → ρ q = r → ρ' q = r') (h0 : ∀ q, q < gz g → ρ q = 0 → ρ' q = 0) : LiPe g ρ' r' b e xs := by
  obtain ⟨k1, k2, k3, k4, k5, k6, k7, k8⟩ := h
  refine ⟨k1, h1 b k3 k2, k3, k4, k5, k6, ?_, k8⟩
  rcases k7 with ⟨a, c⟩ | ⟨a, c, d⟩
  · exact Or.inl ⟨a, h1 e k6 c⟩
  · exact Or.inr ⟨a, h0 e k6 c, d⟩
theorem LiP.re {g : GS} {ρ ρ' : Nat → Nat} {r r' b : Nat} {xs : List Nat} (h : LiP g ρ r b xs) (h1 : ∀ q, q < gz g → ρ q = r → ρ' q = r') (h0 : ∀ q, q < gz g → ρ q = 0 → ρ' q = 0) : LiP g ρ' r' b xs := by
  obtain ⟨e, h⟩ := h
  exact ⟨e, h.re h1 h0⟩
theorem LiP.K {g : GS} {ρ : Nat → Nat} {r b : Nat} {xs : List Nat} (h : LiP g ρ r b xs) : gK g b = 12 := by
  obtain ⟨e, h⟩ := h
  exact h.1
theorem LiP.lt {g : GS} {ρ : Nat → Nat} {r b : Nat} {xs : List Nat} (h : LiP g ρ r b xs) : b < gz g := by
  obtain ⟨e, h⟩ := h
  exact h.2.2.1
theorem LiP.len {g : GS} {ρ : Nat → Nat} {r b : Nat} {xs : List Nat} (h : LiP g ρ r b xs) : xs.length ≤ 2000 := by
  obtain ⟨e, h⟩ := h
  exact Nat.le_trans h.2.2.2.2.2.2.2.1 h.2.2.2.2.2.2.2.2.1
theorem J2_size_l {g : GS} {ρ : Nat → Nat} {r b : Nat} {xs : List Nat} (h : LiP g ρ r b xs) : J2_size b g = some (nI xs.length) := by
  obtain ⟨e, h1, h2, h3, h4, h5⟩ := h
  unfold J2_size
  rw [e_wk h1, h4]
theorem J2_isEmpty_l {g : GS} {ρ : Nat → Nat} {r b : Nat} {xs : List Nat} (h : LiP g ρ r b xs) : J2_isEmpty b g = some (if xs.length = 0 then 1 else 0) := by
  have hl := h.len
  obtain ⟨e, h1, h2, h3, h4, h5⟩ := h
  unfold J2_isEmpty
  rw [e_wk h1, h4]
  by_cases hx : xs.length = 0
  · rw [hx, nI_0, if_pos rfl, if_pos rfl]
  · rw [if_neg (nI_ne0 (by omega) (by omega)), if_neg hx]
theorem J17_checkIndex_l {i n : Nat} {g : GS} (h : i < n) (hn : n < 2 ^ 31) : J17_checkIndex (nI i) (nI n) g = some (nI i) := by
  unfold J17_checkIndex J11_checkIndex
  rw [if_neg (nI_pos (by omega)), if_pos (nI_lt h hn)]
  rfl
theorem LiP.at {g : GS} {ρ : Nat → Nat} {r b i y : Nat} {xs : List Nat} (h : LiP g ρ r b xs) (hy : xs[i]? = some y) : y < gz g ∧ g_sto (gK g y % 1000) = true ∧ i < xs.length := by
  obtain ⟨e, h⟩ := h
  obtain ⟨-, k2, k3⟩ := h.2.2.2.2.2.2.2.2.2 i y hy
  exact ⟨k2, k3, (List.getElem?_eq_some_iff.mp hy).1⟩
theorem J2_get_l {g : GS} {ρ : Nat → Nat} {r b i y : Nat} {xs : List Nat} (h : LiP g ρ r b xs) (hy : xs[i]? = some y) : J2_get b (nI i) g = some y := by
  have hl := h.len
  have hi := (List.getElem?_eq_some_iff.mp hy).1
  obtain ⟨e, h1, h2, h3, h4, h5, h6, h7, h8, h9, h10⟩ := h
  have hk : gK g e % 1000 = 103 := by rcases h7 with ⟨k, _⟩ | ⟨k, _⟩ <;> rw [k]
  unfold J2_get
  rw [e_wk h1, h4, J17_checkIndex_l hi (by omega), e_ob]
  unfold J2_elementData
  rw [e_wk h1, h5, e_nn, e_rk hk, e_inN (by omega) (by omega), nI_clamp (by omega), (h10 i y hy).1, e_nn]
  rfl
theorem len_snoc {xs : List Nat} {x : Nat} : (xs ++ [x]).length = xs.length + 1 := by simp
theorem get_snoc {xs : List Nat} {x i y : Nat} (h : (xs ++ [x])[i]? = some y) : (i < xs.length ∧ xs[i]? = some y) ∨ (i = xs.length ∧ y = x) := by
  rcases Nat.lt_trichotomy i xs.length with hi | hi | hi
  · rw [List.getElem?_append_left hi] at h
    exact Or.inl ⟨hi, h⟩
  · subst hi
    simp at h
    exact Or.inr ⟨rfl, h.symm⟩
  · rw [List.getElem?_eq_none (by simp; omega)] at h
    cases h
/-- what add leaves: the place is free -/
theorem J2_add_2_j11_l {g : GS} {ρ : Nat → Nat} {r b e x : Nat} {xs : List Nat} (hb : gK g b = 12) (hrb : ρ b = r) (hbz : b < gz g) (hR : gR g b 1 = e + 1) (hez : e < gz g) (hke : gK g e = 103) (hre : ρ e = r) (hN : xs.length < gN g e) (hN2 : gN g e ≤ 2000)
    (hel : ∀ i y, xs[i]? = some y → gR g e i = y + 1 ∧ y < gz g ∧ g_sto (gK g y % 1000) = true) (hx : x < gz g) (hs : g_sto (gK g x % 1000) = true) :
    ∃ g', J2_add_2_j11 b x e (nI xs.length) g = some (((), g'), 0, 0) ∧ LiPe g' ρ r b e (xs ++ [x]) ∧ Fr (fun q => q = b ∨ q = e) g g' ∧ gz g' = gz g := by
  have hne : b ≠ e := by intro h; rw [h, hke] at hb; omega
  have hc : (nI xs.length).toNatClampNeg = xs.length := nI_clamp (by omega)
  refine ⟨pI (pR g e xs.length (x + 1)) b 2 (nI xs.length + 1), ?_, ?_, ?_, rfl⟩
  · unfold J2_add_2_j11
    rw [e_wk hke, e_inN hN (by omega), hs, e_gd, e_wk (by rw [K_pR]; exact hb), hc]
  · refine ⟨hb, hrb, hbz, ?_, ?_, hez, Or.inl ⟨hke, hre⟩, ?_, hN2, fun i y hy => ?_⟩
    · rw [I_pI, if_pos ⟨rfl, rfl⟩, len_snoc, nI_1]
    · rw [R_pI, R_pR, if_neg (by rintro ⟨k, -⟩; exact hne k), hR]
    · rw [len_snoc]; exact hN
    · rw [R_pI, R_pR]
      rcases get_snoc hy with ⟨k1, k2⟩ | ⟨k1, k2⟩
      · rw [if_neg (by rintro ⟨-, k⟩; omega)]
        exact hel i y k2
      · subst k1 k2
        rw [if_pos ⟨rfl, rfl⟩]
        exact ⟨rfl, hx, hs⟩
  · exact (Fr.pR (Or.inr rfl)).trans (Fr.pI (W := fun q => q = b ∨ q = e) (Or.inl rfl)) (fun _ _ k => k)
theorem J15_newLength_l {n : Nat} (hn : n ≤ 1300) : J15_newLength (nI n) (nI (n + 1) - nI n) (nI n >>> ((1 : Int32) &&& 31)) = some (nI (n + max 1 (n / 2))) := by
  have h1 : nI (n + 1) - nI n = nI 1 := by
    rw [i_eq, i_sub (by rw [i_n (by omega), i_n (by omega)]; omega) (by rw [i_n (by omega), i_n (by omega)]; omega), i_n (by omega), i_n (by omega), i_n (by omega)]; omega
  have h2 : nI n >>> ((1 : Int32) &&& 31) = nI (n / 2) := pk_shrN (by omega) _ 1 (by decide)
  have h3 : jmax_ (nI 1) (nI (n / 2)) = nI (max 1 (n / 2)) := by
    unfold jmax_
    by_cases h : 1 < n / 2
    · rw [if_pos (nI_lt h (by omega)), Nat.max_eq_right (by omega)]
    · rw [if_neg (nI_nlt (by omega) (by omega)), Nat.max_eq_left (by omega)]
  unfold J15_newLength
  rw [h1, h2, h3, nI_add, if_neg (nI_nle (by omega) (by omega)), if_neg]
  rw [i_lt, i_n (by omega)]
  show ¬ (2147483639 : Int) < _
  omega
theorem acR_l {g : GS} {a b n : Nat} (h1 : n ≤ gN g a) (h2 : n ≤ gN g b) (hn : n < 2 ^ 31) (sp : Nat) (hsp : sp = 0) (h : ∀ i, i < n → gR g a i = 0 ∨ ∃ y, gR g a i = y + 1 ∧ g_sto (gK g y % 1000) = true) : acR_ g a 0 b 0 (nI n) = true := by
  subst hsp
  unfold acR_
  rw [Bool.and_eq_true]
  refine ⟨decide_eq_true ⟨by decide, by decide, nI_pos hn, ?_, ?_⟩, ?_⟩
  · rw [nI_clamp hn]; show 0 + n ≤ _; omega
  · rw [nI_clamp hn]; show 0 + n ≤ _; omega
  · rw [List.all_eq_true]
    intro i hi
    rw [List.mem_range, nI_clamp hn] at hi
    show eo_ g (gR g a (0 + i)) = true
    rw [Nat.zero_add]
    unfold eo_
    rcases h i hi with k | ⟨y, k1, k2⟩
    · rw [k]; rfl
    · rw [k1, Nat.add_sub_cancel, k2, Bool.or_true]
theorem jmin_l {a b : Nat} (ha : a < 2 ^ 31) (hb : b < 2 ^ 31) : jmin_ (nI a) (nI b) = nI (min a b) := by
  unfold jmin_
  by_cases h : b < a
  · rw [if_pos (nI_lt h ha), Nat.min_eq_right (by omega)]
  · rw [if_neg (nI_nlt (by omega) hb), Nat.min_eq_left (by omega)]
theorem jmax_l {a b : Nat} (ha : a < 2 ^ 31) (hb : b < 2 ^ 31) : jmax_ (nI a) (nI b) = nI (max a b) := by
  unfold jmax_
  by_cases h : a < b
  · rw [if_pos (nI_lt h hb), Nat.max_eq_right (by omega)]
  · rw [if_neg (nI_nlt (by omega) ha), Nat.max_eq_left (by omega)]
/-- a copy of an array's first n places (n may be more than it has) -/
theorem J16_copyOf_l {g : GS} {e n : Nat} (hk : gK g e % 1000 = 103) (he : e < gz g) (hN : gN g e ≤ 2000) (hn : n ≤ 2000) (h : ∀ i, i < min (gN g e) n → gR g e i = 0 ∨ ∃ y, gR g e i = y + 1 ∧ y < gz g ∧ g_sto (gK g y % 1000) = true) :
    ∃ g', J16_copyOf e (nI n) g = some ((gz g, g'), 1, n) ∧ Fr no_ g g' ∧ gz g' = gz g + 1 ∧ gK g' (gz g) = 103 ∧ gN g' (gz g) = n ∧ ∀ i, i < min (gN g e) n → gR g' (gz g) i = gR g e i := by
  have hne : e ≠ gz g := by omega
  have hF : Fr no_ g (nw_ g 103 n) := Fr.nw
  refine ⟨cR_ (nw_ g 103 n) e 0 (gz g) 0 (min (gN g e) n), ?_, ?_, ?_, ?_, ?_, ?_⟩
  · unfold J16_copyOf
    rw [e_rk hk]
    unfold J16_copyOf_2
    rw [if_pos rfl, e_na (by rintro (k | k); exact nI_pos (by omega) k; rw [nI_clamp (by omega)] at k; omega), e_al, nI_clamp (by omega)]
    unfold J16_copyOf_2_j24
    have hm : jmin_ (Int32.ofNat (gN (nw_ g 103 n) e)) (nI n) = nI (min (gN g e) n) := by
      rw [N_nw, if_neg hne]
      exact jmin_l (by omega) (by omega)
    rw [e_rk (by rw [K_nw, if_neg hne]; exact hk), e_wk (by rw [K_nw, if_pos rfl]), hm, acR_l (by rw [N_nw, if_neg hne]; omega) (by rw [N_nw, if_pos rfl]; omega) (by omega) 0 rfl ?_, e_gd, nI_clamp (by omega), e_b0, e_ca, e_b0]
    · rfl
    · intro i hi
      rcases h i hi with k | ⟨y, k1, k2, k3⟩
      · exact Or.inl (by rw [R_nw, if_neg hne]; exact k)
      · exact Or.inr ⟨y, by rw [R_nw, if_neg hne]; exact k1, by rw [K_nw, if_neg (by omega)]; exact k3⟩
  · exact hF.trans (Fr.cR (W := fun q => q = gz g) rfl) (fun q hq k => by omega)
  · rfl
  · rw [K_cR, K_nw, if_pos rfl]
  · rw [N_cR, N_nw, if_pos rfl]
  · intro i hi
    rw [R_cR, if_pos ⟨rfl, by omega, by omega⟩, R_nw, if_neg hne]
    congr 1
    omega
theorem J2_grow_j20_l {g : GS} {ρ : Nat → Nat} {r b e : Nat} {xs : List Nat} (h : LiPe g ρ r b e xs) (hfull : xs.length = gN g e) (hl : xs.length ≤ 1300) :
    ∃ g' n, J2_grow_2_j20 b (nI (xs.length + 1)) (Int32.ofNat (gN g e)) g = some ((gz g, g'), 1, n) ∧ gz g' = gz g + 1 ∧ Fr (fun q => q = b) g g' ∧ gK g' (gz g) = 103 ∧ gN g' (gz g) = n ∧ xs.length < n ∧ n ≤ 2000 ∧ 4 * xs.length ≤ 3 * n ∧ (n ≤ 10 ∨ 2 * n ≤ 20 + 3 * xs.length) ∧ gR g' b 1 = gz g + 1 ∧ (∀ i, gI g' b i = gI g b i) ∧ ∀ i y, xs[i]? = some y → gR g' (gz g) i = y + 1 := by
  obtain ⟨h1, h2, h3, h4, h5, h6, h7, h8, h9, h10⟩ := h
  have hk : gK g e % 1000 = 103 := by rcases h7 with ⟨k, _⟩ | ⟨k, _⟩ <;> rw [k]
  have hlen : J15_newLength (Int32.ofNat (gN g e)) (nI (xs.length + 1) - Int32.ofNat (gN g e)) (Int32.ofNat (gN g e) >>> ((1 : Int32) &&& 31)) = some (nI (xs.length + max 1 (xs.length / 2))) := by
    rw [← hfull]
    exact J15_newLength_l hl
  have hin : ∀ i, i < min (gN g e) (xs.length + max 1 (xs.length / 2)) → ∃ y, xs[i]? = some y := fun i hi => ⟨xs[i]'(by omega), List.getElem?_eq_getElem (by omega)⟩
  obtain ⟨g1, c1, c2, c3, c4, c5, c6⟩ := J16_copyOf_l (g := g) (e := e) (n := xs.length + max 1 (xs.length / 2)) hk h6 h9 (by omega) (fun i hi => by
    obtain ⟨y, hy⟩ := hin i hi
    obtain ⟨k1, k2, k3⟩ := h10 i y hy
    exact Or.inr ⟨y, k1, k2, k3⟩)
  have hb1 : gK g1 b = 12 := by rw [c2.K h3, h1]
  have hbe : b ≠ gz g := by omega
  refine ⟨pR g1 b 1 (gz g + 1), xs.length + max 1 (xs.length / 2), ?_, ?_, ?_, ?_, ?_, by omega, by omega, by omega, by omega, ?_, ?_, ?_⟩
  · unfold J2_grow_2_j20
    rw [hlen, e_ob, e_wk h1, h5, e_nn, c1, e_ca, e_wk hb1, e_bp, Nat.zero_add, Nat.zero_add]
  · rw [z_pR, c3]
  · exact (c2.mono (W' := fun q => q = b) (fun _ _ k => k.elim)).trans (Fr.pR (W := fun q => q = b) rfl) (fun _ _ k => k)
  · rw [K_pR, c4]
  · rw [N_pR, c5]
  · rw [R_pR, if_pos ⟨rfl, rfl⟩]
  · intro i
    rw [I_pR, c2.I h3 (fun k => k)]
  · intro i y hy
    have hi := (List.getElem?_eq_some_iff.mp hy).1
    rw [R_pR, if_neg (by rintro ⟨k, -⟩; exact hbe k.symm), c6 i (by omega), (h10 i y hy).1]
theorem J2_grow_l {g : GS} {ρ : Nat → Nat} {r b e : Nat} {xs : List Nat} (h : LiPe g ρ r b e xs) (hS : ∃ d, gS g 1 = d + 1) (hfull : xs.length = gN g e) (hl : xs.length ≤ 1300) :
    ∃ g' n, J2_grow b g = some ((gz g, g'), 1, n) ∧ gz g' = gz g + 1 ∧ Fr (fun q => q = b) g g' ∧ gK g' (gz g) = 103 ∧ gN g' (gz g) = n ∧ xs.length < n ∧ n ≤ 2000 ∧ 4 * xs.length ≤ 3 * n ∧ (n ≤ 10 ∨ 2 * n ≤ 20 + 3 * xs.length) ∧ gR g' b 1 = gz g + 1 ∧ (∀ i, gI g' b i = gI g b i) ∧ ∀ i y, xs[i]? = some y → gR g' (gz g) i = y + 1 := by
  obtain ⟨g1, n, k1, kr⟩ := J2_grow_j20_l h hfull hl
  obtain ⟨h1, h2, h3, h4, h5, h6, h7, h8, h9, h10⟩ := h
  have hk : gK g e % 1000 = 103 := by rcases h7 with ⟨k, _⟩ | ⟨k, _⟩ <;> rw [k]
  by_cases h0 : xs.length = 0
  · obtain ⟨d, hd⟩ := hS
    by_cases he : e = d
    · have hx : xs = [] := List.length_eq_zero_iff.mp h0
      refine ⟨pR (nw_ g 103 10) b 1 (gz g + 1), 10, ?_, rfl, ?_, ?_, ?_, by omega, by omega, by omega, by omega, ?_, ?_, ?_⟩
      · have hj : jmax_ 10 (nI xs.length + 1) = nI 10 := by rw [h0]; rfl
        unfold J2_grow J2_grow_2
        rw [e_wk h1, e_wk h1, h5, e_nn, e_rk hk, if_neg, e_nn, hd, e_nn, if_pos he, h4, hj, e_na (by decide), e_al]
        · rw [e_wk (by rw [K_nw, if_neg (by omega)]; exact h1)]
          rfl
        · rw [← hfull, h0]
          decide
      · exact (Fr.nw (W := fun q => q = b)).trans (Fr.pR (W := fun q => q = b) rfl) (fun _ _ k => k)
      · rw [K_pR, K_nw, if_pos rfl]
      · rw [N_pR, N_nw, if_pos rfl]
      · rw [R_pR, if_pos ⟨rfl, rfl⟩]
      · intro i
        rw [I_pR, I_nw, if_neg (by omega)]
      · intro i y hy
        rw [hx] at hy
        cases hy
    · refine ⟨g1, n, ?_, kr⟩
      unfold J2_grow J2_grow_2
      rw [e_wk h1, e_wk h1, h5, e_nn, e_rk hk, if_neg, e_nn, hd, e_nn, if_neg he, h4, nI_1, k1, e_ca, e_b0]
      · rw [← hfull, h0]
        decide
  · refine ⟨g1, n, ?_, kr⟩
    unfold J2_grow J2_grow_2
    rw [e_wk h1, e_wk h1, h5, e_nn, e_rk hk, if_pos, h4, nI_1, k1, e_ca, e_b0]
    · exact nI_lt (a := 0) (by omega) (by omega)
/-- add: one element more; what it costs is paid out of the room of the array -/
theorem J2_add_l {g : GS} {ρ : Nat → Nat} {r b e x : Nat} {xs : List Nat} (h : LiPe g ρ r b e xs) (hS : ∃ d, gS g 1 = d + 1) (hl : xs.length ≤ 1300) (hx : x < gz g) (hs : g_sto (gK g x % 1000) = true) :
    ∃ g' e' dc ds, J2_add b x g = some ((1, g'), dc, ds) ∧ LiPe g' (nr ρ g r) r b e' (xs ++ [x]) ∧ Fr (fun q => q = b ∨ (q = e ∧ gK g e = 103)) g g' ∧ dc ≤ 1 ∧ ds + 4 * gN g e ≤ 4 * gN g' e' ∧ (gN g' e' ≤ gN g e ∨ gN g' e' ≤ 10 ∨ 2 * gN g' e' ≤ 20 + 3 * xs.length) ∧ gz g' = gz g + dc ∧ ds ≤ 10 + 2 * xs.length ∧ (e' = e ∨ (e' = gz g ∧ dc = 1)) := by
  have h0 := h
  obtain ⟨h1, h2, h3, h4, h5, h6, h7, h8, h9, h10⟩ := h
  have hk : gK g e % 1000 = 103 := by rcases h7 with ⟨k, _⟩ | ⟨k, _⟩ <;> rw [k]
  have hF0 : Fr (fun q => q = b) g (pI g b 0 (gI g b 0 + 1)) := Fr.pI rfl
  have hI2 : gI (pI g b 0 (gI g b 0 + 1)) b 2 = nI xs.length := by rw [I_pI, if_neg (by rintro ⟨-, k⟩; cases k), h4]
  by_cases hfull : xs.length = gN g e
  · have h0' : LiPe (pI g b 0 (gI g b 0 + 1)) ρ r b e xs := ⟨h1, h2, h3, hI2, h5, h6, h7, h8, h9, h10⟩
    obtain ⟨g1, n, k1, k2, k3, k4, k5, k6, k7, k8, k9, k10, k11, k12⟩ := J2_grow_l h0' hS hfull hl
    have hz : gz (pI g b 0 (gI g b 0 + 1)) = gz g := rfl
    rw [hz] at k1 k2 k4 k5 k10 k12
    obtain ⟨g2, m1, m2, m3, m4⟩ := J2_add_2_j11_l (g := g1) (ρ := nr ρ g r) (r := r) (b := b) (e := gz g) (x := x) (xs := xs) (by rw [k3.K h3]; exact h1) (by rw [nr_lt h3, h2]) (by omega) k10 (by omega) k4 (nr_ge (Nat.le_refl _)) (by omega) (by omega)
      (fun i y hy => by
        obtain ⟨n1, n2, n3⟩ := h10 i y hy
        exact ⟨k12 i y hy, by omega, by rw [k3.K (show y < gz (pI g b 0 _) from n2)]; exact n3⟩) (by omega) (by rw [k3.K (show x < gz (pI g b 0 _) from hx)]; exact hs)
    have hN2 : gN g2 (gz g) = n := by rw [m3.N (by omega), k5]
    refine ⟨g2, gz g, 1, n, ?_, m2, ?_, by omega, by rw [hN2]; omega, by rw [hN2]; omega, by rw [m4, k2], by omega, Or.inr ⟨rfl, rfl⟩⟩
    · unfold J2_add J2_add_2
      rw [e_wk h1, R_pI, h5, e_nn, e_rk (g := pI g b 0 (gI g b 0 + 1)) hk, hI2, if_pos, e_wk (g := pI g b 0 (gI g b 0 + 1)) h1, k1, e_ca, m1, e_b0, e_ca, e_b0]
      · show nI xs.length = nI (gN g e)
        rw [hfull]
    · refine (hF0.trans k3 (fun _ _ k => k)).mono (fun _ _ k => Or.inl k) |>.trans m3 (fun q hq k => ?_)
      rcases k with k | k
      · exact Or.inl k
      · omega
  · have hke : gK g e = 103 ∧ ρ e = r := by
      rcases h7 with k | ⟨k, _, k3⟩
      · exact k
      · omega
    obtain ⟨g2, m1, m2, m3, m4⟩ := J2_add_2_j11_l (g := pI g b 0 (gI g b 0 + 1)) (ρ := ρ) (r := r) (b := b) (e := e) (x := x) (xs := xs) h1 h2 h3 h5 h6 hke.1 hke.2 (show xs.length < gN g e by omega) h9 h10 hx hs
    have hN2 : gN g2 e = gN g e := m3.N h6
    refine ⟨g2, e, 0, 0, ?_, ?_, ?_, by omega, by rw [hN2]; omega, by rw [hN2]; omega, by rw [m4]; rfl, by omega, Or.inl rfl⟩
    · unfold J2_add J2_add_2
      rw [e_wk h1, R_pI, h5, e_nn, e_rk (g := pI g b 0 (gI g b 0 + 1)) hk, hI2, if_neg, m1, e_ca, e_b0]
      · show ¬ nI xs.length = nI (gN g e)
        rw [nI_eq (by omega) (by omega)]
        exact hfull
    · exact m2.re (fun q hq k => by rw [nr_lt (by rw [m4] at hq; exact hq)]; exact k) (fun q hq k => by rw [nr_lt (by rw [m4] at hq; exact hq)]; exact k)
    · refine (hF0.mono (W' := fun q => q = b ∨ (q = e ∧ gK g e = 103)) (fun _ _ k => Or.inl k)).trans m3 (fun q hq k => ?_)
      exact k.elim (fun k => Or.inl k) (fun k => Or.inr ⟨k, hke.1⟩)
