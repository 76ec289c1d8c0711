section
/-- the chain of replica K: from the element e on stand the elements of the list, then the head again -/
def zx_ch (a9 : Nat → Int32) (K : Nat) : List Nat → Int32 → Prop
  | [] => fun e => e = 30
  | f :: l => fun e => e = nI f ∧ f < 30 ∧ zx_ch a9 K l (a9 (K * 31 + f))
def zx_get : List Nat → Nat → Nat
  | [], _ => 30
  | f :: _, 0 => f
  | _ :: l, p + 1 => zx_get l p
def zx_idx (t : Nat) : List Nat → Nat
  | [] => 0
  | f :: l => if f = t then 0 else zx_idx t l + 1
def zx_up (sy : Nat → Nat) (c j : Nat) : Nat → Nat := fun i => if i = c then j else sy i
/-- the picture: c events, all of them elements known to replica K, stamped 1 .. c; nothing is deleted; the chain is l -/
def zx_ok (K c : Nat) (l : List Nat) (sy : Nat → Nat) (u : St2) : Prop := match u with
  | (f0, a1, _, a3, _, _, a6, a7, a8, a9) => f0 = nI c ∧ (∀ j, j < c → a1 j = nI (sy j)) ∧ (∀ j, j < c → sy j < 100) ∧ (∀ j, j < c → a3 j = nI (j + 1)) ∧ a6 K = nI (2 ^ c - 1) ∧ a7 K = 0 ∧ a8 K = nI c ∧ zx_ch a9 K l (a9 (K * 31 + 30))
theorem zx_ix (K f : Nat) : nI K * 31 + nI f = nI (K * 31 + f) := by
  rw [show (31 : Int32) = nI 31 from rfl, pk_mul, nI_add]
theorem zx_cl {K f : Nat} (hK : K < 3) (hf : f ≤ 30) : (nI K * 31 + nI f).toNatClampNeg = K * 31 + f := by
  rw [zx_ix, nI_clamp (by omega)]
theorem zx_in {K f : Nat} (hK : K < 3) (hf : f ≤ 30) : vp_in (nI K * 31 + nI f) 93 :=
  pk_in (K * 31 + f) 93 (by omega) (zx_ix K f)
theorem zx_a9 (a9 : Nat → Int32) {K f : Nat} (hK : K < 3) (hf : f ≤ 30) : a9 (nI K * 31 + nI f).toNatClampNeg = a9 (K * 31 + f) := by
  rw [zx_cl hK hf]
theorem zx_ne {f g : Nat} (hf : f < 100) (hg : g < 100) (h : f ≠ g) : ¬ nI f = nI g :=
  fun z => h ((nI_eq (by omega) (by omega)).mp z)
theorem zx_sh0 : ∀ f, f < 30 → (((0 : Int32) >>> (nI f &&& 31)) &&& 1) = 0 := by decide +kernel
theorem zx_bit : ∀ c, c < 3 → ∀ j, j < c → ¬ ((nI (2 ^ c - 1) >>> (nI j &&& 31)) &&& 1) = 0 := by decide +kernel
theorem zx_or : ∀ c, c < 3 → nI (2 ^ c - 1) ||| ((1 : Int32) <<< (nI c &&& 31)) = nI (2 ^ (c + 1) - 1) := by decide +kernel
theorem zx_full : ∀ c, c < 3 → nI (2 ^ c - 1) = ((1 : Int32) <<< (nI c &&& 31)) - 1 := by decide +kernel
theorem zx_b8 : ∀ j, j < 100 → (nI j).toInt8.toInt32 = nI j := by decide +kernel
theorem zx_nb {j : Nat} (h : j < 100) : vp_nar .byte (nI j) = nI j := by
  rw [vp_nar_byte, zx_b8 j h]
theorem zx_rep1 {post : Int32 → Prop} {K : Nat} (hK : K < 3) (hp : post 1) : wpX_isReplica post () (nI K) :=
  br_f (nI_pos (by omega)) (br_f (nI_ge (b := 3) hK (by decide)) hp)
theorem zx_rep0 {post : Int32 → Prop} {x : Int32} (h : x < 0 ∨ 3 ≤ x) (hp : post 0) : wpX_isReplica post () x :=
  h.elim (fun h => br_t h hp) (fun h => br_c (fun _ => hp) (fun _ => br_t h hp))
theorem zx_shown {post : Int32 → Prop} {f0 : Int32} {a1 a2 a3 a4 a5 a6 a7 a8 a9 : Nat → Int32} {K f : Nat} (hK : K < 3) (hf : f < 30) (h7 : a7 K = 0) (hp : post 1) : wpX_isShown post (f0, a1, a2, a3, a4, a5, a6, a7, a8, a9) (nI K) (nI f) :=
  And.intro (pk_in K 3 hK) (br_t (by rw [nI_clamp (by omega), h7]; exact zx_sh0 f hf) hp)
theorem zx_knows {post : Int32 → Prop} {f0 : Int32} {a1 a2 a3 a4 a5 a6 a7 a8 a9 : Nat → Int32} {K c j : Nat} (hK : K < 3) (hc : c < 3) (hj : j < c) (h6 : a6 K = nI (2 ^ c - 1)) (hp : post 1) : wpX_knows post (f0, a1, a2, a3, a4, a5, a6, a7, a8, a9) (nI K) (nI j) :=
  And.intro (pk_in K 3 hK) (br_f (by rw [nI_clamp (by omega), h6]; exact zx_bit c hc j hj) hp)
end
section
theorem zx_len27 {post : Int32 → Prop} {f0 : Int32} {a1 a2 a3 a4 a5 a6 a7 a8 a9 : Nat → Int32} {K : Nat} (hK : K < 3) (h7 : a7 K = 0) : ∀ (l : List Nat) (e : Int32) (n i : Nat), zx_ch a9 K l e → i + l.length < 30 → post (nI (n + l.length)) → wX_length_27 post (nI K) f0 a1 a2 a3 a4 a5 a6 a7 a8 a9 (l.length + 1) (nI n) e (nI i) := by
  intro l
  induction l with
  | nil =>
    intro e n i hc hi hp
    exact br_f (nI_ge (b := 30) hi (by decide)) (br_t hc hp)
  | cons f l ih =>
    intro e n i hc hi hp
    obtain ⟨rfl, hf, hc⟩ := hc
    have hi' : i + (l.length + 1) < 30 := hi
    have hp' : post (nI (n + (l.length + 1))) := hp
    refine br_f (nI_ge (b := 30) (by omega) (by decide)) (br_f (zx_ne (by omega) (by decide) (show f ≠ 30 by omega)) (zx_shown hK hf h7 (br_f (by decide) ?_)))
    refine nm_r (e' := nI (n + 1)) (nI_1 n) (And.intro (zx_in hK (by omega)) (nm_r (e' := a9 (K * 31 + f)) (zx_a9 a9 hK (by omega)) (nm_r (e' := nI (i + 1)) (nI_1 i) ?_)))
    exact ih _ _ _ hc (by omega) (by rw [show n + 1 + l.length = n + (l.length + 1) by omega]; exact hp')
theorem zx_el19 {post : Int32 → Prop} {f0 : Int32} {a1 a2 a3 a4 a5 a6 a7 a8 a9 : Nat → Int32} {K : Nat} (hK : K < 3) (h7 : a7 K = 0) : ∀ (l : List Nat) (e : Int32) (p i : Nat), zx_ch a9 K l e → p < 100 → i + l.length < 30 → post (nI (zx_get l p)) → wX_elementAt_19 post (nI K) f0 a1 a2 a3 a4 a5 a6 a7 a8 a9 (l.length + 1) e (nI p) (nI i) := by
  intro l
  induction l with
  | nil =>
    intro e p i hc hq hi hp
    have hp' : post (nI 30) := hp
    exact br_f (nI_ge (b := 30) hi (by decide)) (br_t hc hp')
  | cons f l ih =>
    intro e p i hc hq hi hp
    obtain ⟨rfl, hf, hc⟩ := hc
    have hi' : i + (l.length + 1) < 30 := hi
    refine br_f (nI_ge (b := 30) (by omega) (by decide)) (br_f (zx_ne (by omega) (by decide) (show f ≠ 30 by omega)) (zx_shown hK hf h7 (br_f (by decide) ?_)))
    cases p with
    | zero =>
      have hp' : post (nI f) := hp
      exact br_t nI_0 hp'
    | succ p =>
      have hp' : post (nI (zx_get l p)) := hp
      refine br_f (nI_ne0 (by omega) (by omega)) (nm_r (e' := nI p) (pk_m1 p) (And.intro (zx_in hK (by omega)) (nm_r (e' := a9 (K * 31 + f)) (zx_a9 a9 hK (by omega)) (nm_r (e' := nI (i + 1)) (nI_1 i) ?_))))
      exact ih _ _ _ hc (by omega) (by omega) hp'
theorem zx_pl67 {post : Int32 → Prop} {f0 : Int32} {a1 a2 a3 a4 a5 a6 a7 a8 a9 : Nat → Int32} {K t : Nat} (hK : K < 3) (ht : t < 30) (h7 : a7 K = 0) : ∀ (l : List Nat) (e : Int32) (n i : Nat), zx_ch a9 K l e → i + l.length < 30 → post (nI (n + zx_idx t l)) → wX_placeOf_67 post (nI K) (nI t) f0 a1 a2 a3 a4 a5 a6 a7 a8 a9 (l.length + 1) (nI n) e (nI i) := by
  intro l
  induction l with
  | nil =>
    intro e n i hc hi hp
    have hp' : post (nI n) := hp
    exact br_f (nI_ge (b := 30) hi (by decide)) (br_c (fun _ => hp') (fun _ => br_t hc hp'))
  | cons f l ih =>
    intro e n i hc hi hp
    obtain ⟨rfl, hf, hc⟩ := hc
    have hi' : i + (l.length + 1) < 30 := hi
    refine br_f (nI_ge (b := 30) (by omega) (by decide)) ?_
    by_cases hft : f = t
    · have hp' : post (nI n) := by
        have e : zx_idx t (f :: l) = 0 := if_pos hft
        rw [e] at hp
        exact hp
      exact br_t (by rw [hft]) hp'
    · have hp' : post (nI (n + (zx_idx t l + 1))) := by
        have e : zx_idx t (f :: l) = zx_idx t l + 1 := if_neg hft
        rw [e] at hp
        exact hp
      refine br_f (zx_ne (by omega) (by omega) hft) (br_f (zx_ne (by omega) (by decide) (show f ≠ 30 by omega)) (zx_shown hK hf h7 (br_f (by decide) ?_)))
      refine nm_r (e' := nI (n + 1)) (nI_1 n) (And.intro (zx_in hK (by omega)) (nm_r (e' := a9 (K * 31 + f)) (zx_a9 a9 hK (by omega)) (nm_r (e' := nI (i + 1)) (nI_1 i) ?_)))
      exact ih _ _ _ hc (by omega) (by rw [show n + 1 + zx_idx t l = n + (zx_idx t l + 1) by omega]; exact hp')
theorem zx_length {post : Int32 → Prop} {K c : Nat} {l : List Nat} {sy : Nat → Nat} {u : St2} (hK : K < 3) (hok : zx_ok K c l sy u) (hl : l.length < 30) (hp : post (nI l.length)) : wpX_length post u (nI K) := by
  obtain ⟨f0, a1, a2, a3, a4, a5, a6, a7, a8, a9⟩ := u
  obtain ⟨h0, h1, hs, h3, h6, h7, h8, hc⟩ := hok
  unfold wpX_length
  refine zx_rep1 hK (br_f (by decide) (And.intro (zx_in (f := 30) hK (by omega)) (nm_r (e' := a9 (K * 31 + 30)) (zx_a9 (f := 30) a9 hK (by omega)) ⟨l.length + 1, ?_⟩)))
  exact zx_len27 hK h7 l _ 0 0 hc (by omega) (by rw [Nat.zero_add]; exact hp)
theorem zx_elementAt {post : Int32 → Prop} {K c p : Nat} {l : List Nat} {sy : Nat → Nat} {u : St2} (hK : K < 3) (hok : zx_ok K c l sy u) (hl : l.length < 30) (hq : p < 100) (hp : post (nI (zx_get l p))) : wpX_elementAt post u (nI K) (nI p) := by
  obtain ⟨f0, a1, a2, a3, a4, a5, a6, a7, a8, a9⟩ := u
  obtain ⟨h0, h1, hs, h3, h6, h7, h8, hc⟩ := hok
  unfold wpX_elementAt
  refine And.intro (zx_in (f := 30) hK (by omega)) (nm_r (e' := a9 (K * 31 + 30)) (zx_a9 (f := 30) a9 hK (by omega)) ⟨l.length + 1, ?_⟩)
  exact zx_el19 hK h7 l _ p 0 hc hq (by omega) hp
theorem zx_clock {post : Int32 → Prop} {K c : Nat} {l : List Nat} {sy : Nat → Nat} {u : St2} (hK : K < 3) (hok : zx_ok K c l sy u) (hp : post (nI c)) : wpX_clock post u (nI K) := by
  obtain ⟨f0, a1, a2, a3, a4, a5, a6, a7, a8, a9⟩ := u
  obtain ⟨h0, h1, hs, h3, h6, h7, h8, hc⟩ := hok
  unfold wpX_clock
  exact zx_rep1 hK (br_f (by decide) (And.intro (pk_in K 3 hK) (by rw [nI_clamp (by omega), h8]; exact hp)))
theorem zx_known {post : Int32 → Prop} {K c : Nat} {l : List Nat} {sy : Nat → Nat} {u : St2} (hK : K < 3) (hok : zx_ok K c l sy u) (hp : post (nI (2 ^ c - 1))) : wpX_known post u (nI K) := by
  obtain ⟨f0, a1, a2, a3, a4, a5, a6, a7, a8, a9⟩ := u
  obtain ⟨h0, h1, hs, h3, h6, h7, h8, hc⟩ := hok
  unfold wpX_known
  exact zx_rep1 hK (br_f (by decide) (And.intro (pk_in K 3 hK) (by rw [nI_clamp (by omega), h6]; exact hp)))
theorem zx_events {post : Int32 → Prop} {K c : Nat} {l : List Nat} {sy : Nat → Nat} {u : St2} (hok : zx_ok K c l sy u) (hp : post (nI c)) : wpX_events post u := by
  obtain ⟨f0, a1, a2, a3, a4, a5, a6, a7, a8, a9⟩ := u
  obtain ⟨h0, h1, hs, h3, h6, h7, h8, hc⟩ := hok
  subst h0
  exact hp
theorem zx_elements {post : Int32 → Prop} {K c : Nat} {l : List Nat} {sy : Nat → Nat} {u : St2} (hK : K < 3) (hc : c < 3) (hok : zx_ok K c l sy u) (hp : post (nI c)) : wpX_elements post u (nI K) := by
  obtain ⟨f0, a1, a2, a3, a4, a5, a6, a7, a8, a9⟩ := u
  obtain ⟨h0, h1, hs, h3, h6, h7, h8, _⟩ := hok
  subst h0
  unfold wpX_elements
  refine zx_rep1 hK (br_f (by decide) ?_)
  exact pk_loop (σ := Unit) (fun n i _ => wX_elements_13 post (nI K) (nI c) a1 a2 a3 a4 a5 a6 a7 a8 a9 n (nI i) (nI i)) (fun _ _ => True) c 0 () (by omega) trivial
    (fun n _ _ => br_t (nI_le (Nat.le_refl c) (by omega)) hp)
    (fun n i _ hi _ hw => br_f (nI_ge hi (by omega)) (zx_knows hK hc hi h6 (br_f (by decide) (And.intro (pk_in i 30 (by omega)) (br_f (by rw [nI_clamp (by omega), h1 i hi]; exact nI_pos (by have := hs i hi; omega)) (nm_r (e' := nI (i + 1)) (nI_1 i) (nm_r (e' := nI (i + 1)) (nI_1 i) (hw () trivial))))))))
theorem zx_at {post : Int32 → Prop} {K c p : Nat} {l : List Nat} {sy : Nat → Nat} {u : St2} {v : Int32} (hK : K < 3) (hc : c < 3) (hok : zx_ok K c l sy u) (hl : l.length < 30) (hq : p < 100) (h : (zx_get l p = 30 ∧ v = -1) ∨ (zx_get l p < c ∧ v = nI (sy (zx_get l p)))) (hp : post v) : wpX_at post u (nI K) (nI p) := by
  obtain ⟨f0, a1, a2, a3, a4, a5, a6, a7, a8, a9⟩ := u
  have hok' := hok
  obtain ⟨h0, h1, hs, h3, h6, h7, h8, _⟩ := hok'
  unfold wpX_at
  unfold wpX_madeBy
  refine zx_rep1 hK (br_f (by decide) (br_t (nI_pos' (by omega)) (zx_elementAt hK hok hl hq ?_)))
  rcases h with ⟨h, e⟩ | ⟨h, e⟩
  · rw [e] at hp
    exact br_t (by rw [h]; rfl) (br_f (by decide) hp)
  · rw [e, ← h1 _ h, ← nI_clamp (n := zx_get l p) (by omega)] at hp
    exact br_f (zx_ne (by omega) (by decide) (show zx_get l p ≠ 30 by omega)) (br_t (nI_pos' (by omega)) (And.intro (pk_in (zx_get l p) 30 (by omega)) hp))
theorem zx_placeN {post : Int32 → Prop} {K : Nat} {l : List Nat} {sy : Nat → Nat} {u : St2} (hK : K < 3) (hok : zx_ok K 0 l sy u) (hp : post (-1)) : wpX_placeOf post u (nI K) 0 := by
  obtain ⟨f0, a1, a2, a3, a4, a5, a6, a7, a8, a9⟩ := u
  obtain ⟨h0, h1, hs, h3, h6, h7, h8, hc⟩ := hok
  subst h0
  unfold wpX_placeOf
  exact zx_rep1 hK (br_f (by decide) (br_f (by decide) (br_t (by decide) hp)))
theorem zx_placeP {post : Int32 → Prop} {K c : Nat} {l : List Nat} {sy : Nat → Nat} {u : St2} (hK : K < 3) (hc : c < 3) (h00 : 0 < c) (hok : zx_ok K c l sy u) (hl : l.length < 30) (hp : post (nI (zx_idx 0 l))) : wpX_placeOf post u (nI K) 0 := by
  obtain ⟨f0, a1, a2, a3, a4, a5, a6, a7, a8, a9⟩ := u
  obtain ⟨h0, h1, hs, h3, h6, h7, h8, hch⟩ := hok
  subst h0
  unfold wpX_placeOf
  have n1 : ¬ a1 (0 : Int32).toNatClampNeg < 0 := by
    rw [show (0 : Int32).toNatClampNeg = 0 from rfl, h1 0 h00]
    exact nI_pos (by have := hs 0 h00; omega)
  refine zx_rep1 hK (br_f (by decide) (br_f (by decide) (br_f (nI_nle h00 (by omega)) (And.intro (pk_in 0 30 (by decide)) (br_f n1 (zx_knows (j := 0) hK hc h00 h6 (br_f (by decide) (zx_shown (f := 0) hK (by decide) h7 (br_f (by decide) ?_)))))))))
  refine And.intro (zx_in (f := 30) hK (by omega)) (nm_r (e' := a9 (K * 31 + 30)) (zx_a9 (f := 30) a9 hK (by omega)) ⟨l.length + 1, ?_⟩)
  exact zx_pl67 (t := 0) hK (by decide) h7 l _ 0 0 hch (by omega) (by rw [Nat.zero_add]; exact hp)
theorem zx_placeOf {post : Int32 → Prop} {K c : Nat} {l : List Nat} {sy : Nat → Nat} {u : St2} {v : Int32} (hK : K < 3) (hc : c < 3) (hok : zx_ok K c l sy u) (hl : l.length < 30) (h : (c = 0 ∧ v = -1) ∨ (0 < c ∧ v = nI (zx_idx 0 l))) (hp : post v) : wpX_placeOf post u (nI K) 0 := by
  rcases h with ⟨h, e⟩ | ⟨h, e⟩
  · subst h e
    exact zx_placeN hK hok hp
  · subst e
    exact zx_placeP hK hc h hok hl hp
/-! the same for a replica that isn't one -/
theorem zx_lengthO {post : Int32 → Prop} {x : Int32} {u : St2} (h : x < 0 ∨ 3 ≤ x) (hp : post (-1)) : wpX_length post u x := by
  obtain ⟨f0, a1, a2, a3, a4, a5, a6, a7, a8, a9⟩ := u
  unfold wpX_length
  exact zx_rep0 h (br_t rfl hp)
theorem zx_clockO {post : Int32 → Prop} {x : Int32} {u : St2} (h : x < 0 ∨ 3 ≤ x) (hp : post (-1)) : wpX_clock post u x := by
  obtain ⟨f0, a1, a2, a3, a4, a5, a6, a7, a8, a9⟩ := u
  unfold wpX_clock
  exact zx_rep0 h (br_t rfl hp)
theorem zx_elementsO {post : Int32 → Prop} {x : Int32} {u : St2} (h : x < 0 ∨ 3 ≤ x) (hp : post (-1)) : wpX_elements post u x := by
  obtain ⟨f0, a1, a2, a3, a4, a5, a6, a7, a8, a9⟩ := u
  unfold wpX_elements
  exact zx_rep0 h (br_t rfl hp)
theorem zx_atO {post : Int32 → Prop} {x p : Int32} {u : St2} (h : x < 0 ∨ 3 ≤ x) (hp : post (-1)) : wpX_at post u x p := by
  obtain ⟨f0, a1, a2, a3, a4, a5, a6, a7, a8, a9⟩ := u
  unfold wpX_at
  unfold wpX_madeBy
  exact zx_rep0 h (br_t rfl (br_f (by decide) hp))
theorem zx_knownO {post : Int32 → Prop} {x : Int32} {u : St2} (h : x < 0 ∨ 3 ≤ x) (hp : post 0) : wpX_known post u x := by
  obtain ⟨f0, a1, a2, a3, a4, a5, a6, a7, a8, a9⟩ := u
  unfold wpX_known
  exact zx_rep0 h (br_t rfl hp)
theorem zx_placeOfO {post : Int32 → Prop} {x p : Int32} {u : St2} (h : x < 0 ∨ 3 ≤ x) (hp : post (-1)) : wpX_placeOf post u x p := by
  obtain ⟨f0, a1, a2, a3, a4, a5, a6, a7, a8, a9⟩ := u
  unfold wpX_placeOf
  exact zx_rep0 h (br_t rfl hp)
theorem zx_putO {post : Int32 → St2 → Prop} {x p s : Int32} {u : St2} (h : x < 0 ∨ 3 ≤ x) (hp : post (-1) u) : wpX_put post u x p s := by
  obtain ⟨f0, a1, a2, a3, a4, a5, a6, a7, a8, a9⟩ := u
  unfold wpX_put
  exact zx_rep0 h (br_t rfl hp)
end
section
theorem zx_gr {post : Int32 → Prop} {f0 : Int32} {a1 a2 a3 a4 a5 a6 a7 a8 a9 : Nat → Int32} {c g : Nat} {y : Int32} (hc : c < 30) (hg : g < 30) (hy : y = nI g) (h : a3 g < a3 c) (hp : post 1) : wpX_isGreater post (f0, a1, a2, a3, a4, a5, a6, a7, a8, a9) (nI c) y := by
  subst hy
  unfold wpX_isGreater
  exact And.intro (pk_in c 30 hc) (And.intro (pk_in g 30 hg) (br_t (by rw [nI_clamp (show g < 2 ^ 31 by omega), nI_clamp (show c < 2 ^ 31 by omega)]; exact h) hp))
theorem zx_integ {post : St2 → Prop} {f0 : Int32} {a1 a2 a3 a4 a5 a6 a7 a8 a9 : Nat → Int32} {K c q : Nat} {v : Int32} (hK : K < 3) (hc : c < 30) (hq : q ≤ 30) (h2 : a2 c = nI q) (hv : a9 (K * 31 + q) = v) (h : v = 30 ∨ ∃ g, g < 30 ∧ v = nI g ∧ a3 g < a3 c)
    (hp : post (f0, a1, a2, a3, a4, a5, a6, a7, a8, upd (upd a9 (K * 31 + c) v.toInt8.toInt32) (K * 31 + q) (nI c).toInt8.toInt32)) : wpX_integrate post (f0, a1, a2, a3, a4, a5, a6, a7, a8, a9) (nI K) (nI c) := by
  unfold wpX_integrate
  have h47 : wX_integrate_47 post (nI K) (nI c) (nI q) v f0 a1 a2 a3 a4 a5 a6 a7 a8 a9 :=
    And.intro (zx_in hK (by omega)) (nm_r (e' := upd a9 (K * 31 + c) v.toInt8.toInt32) (by rw [zx_cl hK (by omega)]) (And.intro (zx_in hK hq) (nm_r (e' := upd (upd a9 (K * 31 + c) v.toInt8.toInt32) (K * 31 + q) (nI c).toInt8.toInt32) (by rw [zx_cl hK hq]) hp)))
  refine And.intro (pk_in c 30 hc) (nm_r (e' := nI q) (by rw [nI_clamp (by omega)]; exact h2) ⟨1, ?_⟩)
  refine br_f (by decide) (And.intro (zx_in hK hq) (nm_r (e' := v) (by rw [zx_cl hK hq]; exact hv) ?_))
  rcases h with h | ⟨g, hg, hv', hl⟩
  · exact br_t h h47
  · exact br_f (by rw [hv']; exact zx_ne (by omega) (by decide) (show g ≠ 30 by omega)) (zx_gr hc hg hv' hl (br_f (by decide) h47))
theorem zx_take {post : St2 → Prop} {f0 : Int32} {a1 a2 a3 a4 a5 a6 a7 a8 a9 : Nat → Int32} {K c q : Nat} {v : Int32} (hK : K < 3) (hc : c < 30) (hq : q ≤ 30) (h2 : a2 c = nI q) (hv : a9 (K * 31 + q) = v) (h : v = 30 ∨ ∃ g, g < 30 ∧ v = nI g ∧ a3 g < a3 c) (hs : 0 ≤ a1 c) (ht : ¬ a3 c ≤ a8 K)
    (hp : post (f0, a1, a2, a3, a4, a5, upd a6 K (a6 K ||| ((1 : Int32) <<< (nI c &&& 31))), a7, upd a8 K (vp_nar .byte (a3 c)), upd (upd a9 (K * 31 + c) v.toInt8.toInt32) (K * 31 + q) (nI c).toInt8.toInt32)) : wpX_take post (f0, a1, a2, a3, a4, a5, a6, a7, a8, a9) (nI K) (nI c) := by
  have eK : (nI K).toNatClampNeg = K := nI_clamp (by omega)
  have ec : (nI c).toNatClampNeg = c := nI_clamp (by omega)
  unfold wpX_take
  refine And.intro (pk_in K 3 hK) (And.intro (pk_in K 3 hK) (nm_r (e' := upd a6 K (a6 K ||| ((1 : Int32) <<< (nI c &&& 31)))) (by rw [eK]) (And.intro (pk_in c 30 hc) (br_t (by rw [ec]; exact hs) (And.intro (pk_in c 30 hc) (And.intro (pk_in K 3 hK) (br_f (by rw [ec, eK]; exact ht) (And.intro (pk_in c 30 hc) (And.intro (pk_in K 3 hK) (nm_r (e' := upd a8 K (vp_nar .byte (a3 c))) (by rw [eK, ec]) ?_))))))))))
  exact zx_integ hK hc hq h2 hv h hp
theorem zx_make {post : Int32 → St2 → Prop} {a1 a2 a3 a4 a5 a6 a7 a8 a9 : Nat → Int32} {K c q j : Nat} {v : Int32} (hK : K < 3) (hc : c < 30) (hq : q ≤ 30) (hj : j < 100) (h8 : a8 K = nI c) (hv : a9 (K * 31 + q) = v) (h : v = 30 ∨ ∃ g, g < c ∧ v = nI g ∧ a3 g = nI (g + 1))
    (hp : post (nI c) (nI (c + 1), upd a1 c (nI j), upd a2 c (nI q), upd a3 c (nI (c + 1)), upd a4 c (nI K), upd a5 c (a6 K), upd a6 K (a6 K ||| ((1 : Int32) <<< (nI c &&& 31))), a7, upd a8 K (nI (c + 1)), upd (upd a9 (K * 31 + c) v.toInt8.toInt32) (K * 31 + q) (nI c))) : wpX_make post (nI c, a1, a2, a3, a4, a5, a6, a7, a8, a9) (nI K) (nI j) (nI q) := by
  have eK : (nI K).toNatClampNeg = K := nI_clamp (by omega)
  have ec : (nI c).toNatClampNeg = c := nI_clamp (by omega)
  unfold wpX_make
  refine And.intro (pk_in c 30 hc) (nm_r (e' := upd a1 c (nI j)) (by rw [ec, zx_b8 j hj]) (And.intro (pk_in c 30 hc) (nm_r (e' := upd a2 c (nI q)) (by rw [ec, zx_b8 q (by omega)]) (And.intro (pk_in c 30 hc) (nm_r (e' := upd a4 c (nI K)) (by rw [ec, zx_b8 K (by omega)]) (And.intro (pk_in K 3 hK) (And.intro (pk_in c 30 hc) (nm_r (e' := upd a5 c (a6 K)) (by rw [ec, eK]) (br_t (nI_pos' (by omega)) (And.intro (pk_in K 3 hK) ?_))))))))))
  refine And.intro (pk_in c 30 hc) (nm_r (e' := upd a3 c (nI (c + 1))) (by rw [ec, eK, h8, nI_1, zx_b8 (c + 1) (by omega)]) (nm_r (e' := nI (c + 1)) (nI_1 c) ?_))
  have e1 : vp_nar .byte (upd a3 c (nI (c + 1)) c) = nI (c + 1) := by rw [pk_us, zx_nb (by omega)]
  have e2 : (nI c).toInt8.toInt32 = nI c := zx_b8 c (by omega)
  have h' : v = 30 ∨ ∃ g, g < 30 ∧ v = nI g ∧ upd a3 c (nI (c + 1)) g < upd a3 c (nI (c + 1)) c := by
    rcases h with h | ⟨g, hg, hv', h3⟩
    · exact Or.inl h
    · refine Or.inr ⟨g, by omega, hv', ?_⟩
      rw [pk_us, pk_un (by omega), h3]
      exact nI_lt (by omega) (by omega)
  have hp' : post (nI c) (nI (c + 1), upd a1 c (nI j), upd a2 c (nI q), upd a3 c (nI (c + 1)), upd a4 c (nI K), upd a5 c (a6 K), upd a6 K (a6 K ||| ((1 : Int32) <<< (nI c &&& 31))), a7, upd a8 K (vp_nar .byte (upd a3 c (nI (c + 1)) c)), upd (upd a9 (K * 31 + c) v.toInt8.toInt32) (K * 31 + q) (nI c).toInt8.toInt32) := by
    rw [e1, e2]
    exact hp
  exact zx_take hK hc hq pk_us hv h' (by rw [pk_us]; exact nI_pos' (by omega)) (by rw [pk_us, h8]; exact nI_ge (by omega) (by omega)) hp'
theorem zx_put {post : Int32 → St2 → Prop} {f0 : Int32} {a1 a2 a3 a4 a5 a6 a7 a8 a9 : Nat → Int32} {K c p j q : Nat} {l l' : List Nat} {sy : Nat → Nat} {v : Int32} (hK : K < 3) (hc : c < 2) (hj : j ≤ 25) (hok : zx_ok K c l sy (f0, a1, a2, a3, a4, a5, a6, a7, a8, a9)) (hl : l.length = c) (hpc : p ≤ c) (hq : (p = 0 ∧ q = 30) ∨ ∃ p', p = p' + 1 ∧ q = zx_get l p') (hq30 : q ≤ 30) (hv : a9 (K * 31 + q) = v) (h : v = 30 ∨ ∃ g, g < c ∧ v = nI g)
    (hch : ∀ b, b = upd (upd a9 (K * 31 + c) v) (K * 31 + q) (nI c) → zx_ch b K l' (b (K * 31 + 30)))
    (H : ∀ u', zx_ok K (c + 1) l' (zx_up sy c j) u' → post (nI c) u') : wpX_put post (f0, a1, a2, a3, a4, a5, a6, a7, a8, a9) (nI K) (nI p) (nI j) := by
  have hok' := hok
  obtain ⟨h0, h1, hs, h3, h6, h7, h8, hc9⟩ := hok'
  subst h0
  have hv8 : v.toInt8.toInt32 = v := by
    rcases h with h | ⟨g, hg, h⟩
    · rw [h]
      decide
    · rw [h]
      exact zx_b8 g (by omega)
  have hn : zx_ok K (c + 1) l' (zx_up sy c j) (nI (c + 1), upd a1 c (nI j), upd a2 c (nI q), upd a3 c (nI (c + 1)), upd a4 c (nI K), upd a5 c (a6 K), upd a6 K (a6 K ||| ((1 : Int32) <<< (nI c &&& 31))), a7, upd a8 K (nI (c + 1)), upd (upd a9 (K * 31 + c) v.toInt8.toInt32) (K * 31 + q) (nI c)) := by
    rw [hv8]
    refine ⟨rfl, ?_, ?_, ?_, ?_, h7, pk_us, hch _ rfl⟩
    · intro i hi
      by_cases e : i = c
      · subst e
        rw [pk_us, show zx_up sy i j i = j from if_pos rfl]
      · rw [pk_un e, show zx_up sy c j i = sy i from if_neg e]
        exact h1 i (by omega)
    · intro i hi
      by_cases e : i = c
      · rw [show zx_up sy c j i = j from if_pos e]
        omega
      · rw [show zx_up sy c j i = sy i from if_neg e]
        exact hs i (by omega)
    · intro i hi
      by_cases e : i = c
      · subst e
        rw [pk_us]
      · rw [pk_un e]
        exact h3 i (by omega)
    · rw [pk_us, h6]
      exact zx_or c (by omega)
  have M : wX_put_61 post (nI K) (nI j) (nI q) (nI c) a1 a2 a3 a4 a5 a6 a7 a8 a9 := by
    unfold wX_put_61
    exact zx_make hK (by omega) hq30 (by omega) h8 hv (h.imp id (fun ⟨g, hg, e⟩ => ⟨g, hg, e, h3 g hg⟩)) (H _ hn)
  unfold wpX_put
  refine zx_rep1 hK (br_f (by decide) (br_f (nI_pos (by omega)) (br_f (nI_nlt (a := 25) hj (by decide)) (br_f (nI_pos (by omega)) (zx_length hK hok (by omega) ?_)))))
  refine br_t (nI_le (by omega) (by omega)) (br_t (nI_lt (b := 30) (by omega) (by decide)) ?_)
  rcases hq with ⟨e, e'⟩ | ⟨p', e, e'⟩
  · subst e e'
    exact br_t nI_0 M
  · subst e
    rw [e'] at M
    refine br_f (nI_ne0 (by omega) (by omega)) ?_
    rw [nI_pred]
    exact zx_elementAt hK hok (by omega) (by omega) M
theorem zx_putA {post : Int32 → St2 → Prop} {u : St2} {K j : Nat} {sy : Nat → Nat} (hK : K < 3) (hj : j ≤ 25) (hok : zx_ok K 0 [] sy u) (H : ∀ u', zx_ok K 1 [0] (zx_up sy 0 j) u' → post (nI 0) u') : wpX_put post u (nI K) (nI 0) (nI j) := by
  obtain ⟨f0, a1, a2, a3, a4, a5, a6, a7, a8, a9⟩ := u
  have hok' := hok
  obtain ⟨h0, h1, hs, h3, h6, h7, h8, hc⟩ := hok'
  refine zx_put (p := 0) (q := 30) (v := 30) (l := []) (l' := [0]) hK (by omega) hj hok rfl (by omega) (Or.inl ⟨rfl, rfl⟩) (by omega) hc (Or.inl rfl) (fun b hb => ?_) H
  subst hb
  refine ⟨pk_us, by omega, ?_⟩
  show upd _ _ _ _ = 30
  rw [pk_un (by omega), pk_us]
theorem zx_putF {post : Int32 → St2 → Prop} {u : St2} {K j : Nat} {sy : Nat → Nat} (hK : K < 3) (hj : j ≤ 25) (hok : zx_ok K 1 [0] sy u) (H : ∀ u', zx_ok K 2 [1, 0] (zx_up sy 1 j) u' → post (nI 1) u') : wpX_put post u (nI K) (nI 0) (nI j) := by
  obtain ⟨f0, a1, a2, a3, a4, a5, a6, a7, a8, a9⟩ := u
  have hok' := hok
  obtain ⟨h0, h1, hs, h3, h6, h7, h8, hc1, _, hc2⟩ := hok'
  have hc2' : a9 (K * 31 + 0) = 30 := hc2
  refine zx_put (p := 0) (q := 30) (v := nI 0) (l := [0]) (l' := [1, 0]) hK (by omega) hj hok rfl (by omega) (Or.inl ⟨rfl, rfl⟩) (by omega) hc1 (Or.inr ⟨0, by omega, rfl⟩) (fun b hb => ?_) H
  subst hb
  refine ⟨pk_us, by omega, ?_, by omega, ?_⟩
  · rw [pk_un (by omega), pk_us]
  · show upd _ _ _ _ = 30
    rw [pk_un (by omega), pk_un (by omega), hc2']
theorem zx_putL {post : Int32 → St2 → Prop} {u : St2} {K j : Nat} {sy : Nat → Nat} (hK : K < 3) (hj : j ≤ 25) (hok : zx_ok K 1 [0] sy u) (H : ∀ u', zx_ok K 2 [0, 1] (zx_up sy 1 j) u' → post (nI 1) u') : wpX_put post u (nI K) (nI 1) (nI j) := by
  obtain ⟨f0, a1, a2, a3, a4, a5, a6, a7, a8, a9⟩ := u
  have hok' := hok
  obtain ⟨h0, h1, hs, h3, h6, h7, h8, hc1, _, hc2⟩ := hok'
  have hc2' : a9 (K * 31 + 0) = 30 := hc2
  refine zx_put (p := 1) (q := 0) (v := 30) (l := [0]) (l' := [0, 1]) hK (by omega) hj hok rfl (by omega) (Or.inr ⟨0, rfl, rfl⟩) (by omega) hc2' (Or.inl rfl) (fun b hb => ?_) H
  subst hb
  refine ⟨?_, by omega, ?_, by omega, ?_⟩
  · rw [pk_un (by omega), pk_un (by omega), hc1]
  · rw [pk_us]
  · show upd _ _ _ _ = 30
    rw [pk_un (by omega), pk_us]
theorem zx_putB {post : Int32 → St2 → Prop} {u : St2} {K c : Nat} {l : List Nat} {sy : Nat → Nat} {p s : Int32} (hK : K < 3) (hok : zx_ok K c l sy u) (hl : l.length < 30) (h : s < 0 ∨ 25 < s ∨ p < 0 ∨ nI l.length < p) (hp : post (-1) u) : wpX_put post u (nI K) p s := by
  obtain ⟨f0, a1, a2, a3, a4, a5, a6, a7, a8, a9⟩ := u
  unfold wpX_put
  refine zx_rep1 hK (br_f (by decide) (br_c (fun _ => hp) (fun n1 => br_c (fun _ => hp) (fun n2 => br_c (fun _ => hp) (fun n3 => zx_length hK hok hl (br_f ?_ hp))))))
  rcases h with h | h | h | h
  · exact absurd h n1
  · exact absurd h n2
  · exact absurd h n3
  · exact Int32.not_le.mpr h
end
section
theorem zx_fin {post : Int32 → St0 → Prop} {mc ms kc ks : Nat} {f0 : Int32} {a1 a2 a3 a4 a5 a6 a7 a8 a9 : Nat → Int32} {K c : Nat} {l : List Nat} {sy : Nat → Nat} {x13 x14 x15 : Int32} (hK : K < 3) (hc : c < 3) (hl : l.length = c) (hA : (zx_get l 0 = 30 ∧ x13 = -1) ∨ (zx_get l 0 < c ∧ x13 = nI (sy (zx_get l 0)))) (hB : (zx_get l 1 = 30 ∧ x14 = -1) ∨ (zx_get l 1 < c ∧ x14 = nI (sy (zx_get l 1)))) (hP : (c = 0 ∧ x15 = -1) ∨ (0 < c ∧ x15 = nI (zx_idx 0 l))) (hp : post 1 ()) (hok : zx_ok K c l sy (f0, a1, a2, a3, a4, a5, a6, a7, a8, a9)) : wL_lawOf_269 post mc ms (nI K) (nI c) x13 x14 x15 (nI c) kc ks f0 a1 a2 a3 a4 a5 a6 a7 a8 a9 := by
  unfold wL_lawOf_269
  refine zx_length hK hok (by omega) (br_t (by rw [hl]) (zx_clock hK hok (br_t rfl (zx_elements hK hc hok (br_t rfl ?_)))))
  refine zx_at (p := 0) hK hc hok (by omega) (by decide) hA (br_t rfl ?_)
  refine zx_at (p := 1) hK hc hok (by omega) (by decide) hB (br_t rfl ?_)
  refine zx_known hK hok (br_t (zx_full c hc) (zx_events hok (br_t rfl ?_)))
  exact zx_placeOf hK hc hok (by omega) hP (br_t rfl hp)
theorem zx_finO {post : Int32 → St0 → Prop} {mc ms kc ks : Nat} {f0 : Int32} {a1 a2 a3 a4 a5 a6 a7 a8 a9 : Nat → Int32} {x : Int32} (h : x < 0 ∨ 3 ≤ x) (hp : post 1 ()) (hf : f0 = 0) : wL_lawOf_269 post mc ms x 0 (-1) (-1) (-1) (-1) kc ks f0 a1 a2 a3 a4 a5 a6 a7 a8 a9 := by
  unfold wL_lawOf_269
  subst hf
  refine zx_lengthO h (br_t rfl (zx_clockO h (br_t rfl (zx_elementsO h (br_t rfl (zx_atO h (br_t rfl (zx_atO h (br_t rfl ?_)))))))))
  refine zx_knownO h (br_t (by decide) ?_)
  exact br_t rfl (zx_placeOfO h (br_t rfl hp))
theorem zx_cA {post : Int32 → St0 → Prop} {mc ms kc ks : Nat} {f0 : Int32} {a1 a2 a3 a4 a5 a6 a7 a8 a9 : Nat → Int32} {x s p t : Int32} (h : x < 0 ∨ 3 ≤ x) (hp : post 1 ()) (hf : f0 = 0) : wL_lawOf_89 post mc ms x s p t 0 0 0 0 kc ks f0 a1 a2 a3 a4 a5 a6 a7 a8 a9 := by
  refine br_t rfl (br_t rfl ?_)
  unfold wL_lawOf_114
  refine zx_putO h (br_t rfl ?_)
  refine zx_putO h (br_t rfl (br_t rfl ?_))
  refine nm_r (e' := 0) rfl ?_
  refine br_t rfl (br_t rfl (br_t rfl (br_t rfl (br_t rfl (br_t rfl (br_t rfl (br_t rfl ?_)))))))
  exact zx_finO h hp hf
theorem zx_cB {post : Int32 → St0 → Prop} {mc ms kc ks : Nat} {f0 : Int32} {a1 a2 a3 a4 a5 a6 a7 a8 a9 : Nat → Int32} {K : Nat} {sy : Nat → Nat} {s p t : Int32} (hK : K < 3) (hp : post 1 ()) (hs : s < 0 ∨ 25 < s) (ht : t < 0 ∨ 25 < t ∨ p < 0 ∨ nI 0 < p) (hok : zx_ok K 0 [] sy (f0, a1, a2, a3, a4, a5, a6, a7, a8, a9)) : wL_lawOf_89 post mc ms (nI K) s p t 1 0 0 0 kc ks f0 a1 a2 a3 a4 a5 a6 a7 a8 a9 := by
  refine br_t rfl (br_t rfl ?_)
  unfold wL_lawOf_114
  refine zx_putB hK hok (by decide) (hs.imp id Or.inl) (br_t rfl ?_)
  refine zx_putB hK hok (by decide) ht (br_t rfl (br_t rfl ?_))
  refine nm_r (e' := nI 0) rfl ?_
  refine br_t rfl (br_t rfl (br_t rfl (br_t rfl (br_t rfl (br_t rfl (br_t rfl (br_f (by decide) ?_)))))))
  exact zx_fin hK (by decide) rfl (Or.inl ⟨rfl, rfl⟩) (Or.inl ⟨rfl, rfl⟩) (Or.inl ⟨rfl, rfl⟩) hp hok
theorem zx_cC {post : Int32 → St0 → Prop} {mc ms kc ks : Nat} {f0 : Int32} {a1 a2 a3 a4 a5 a6 a7 a8 a9 : Nat → Int32} {K : Nat} {sy : Nat → Nat} {s : Int32} {j : Nat} (hK : K < 3) (hp : post 1 ()) (hs : s < 0 ∨ 25 < s) (hj : j ≤ 25) (hok : zx_ok K 0 [] sy (f0, a1, a2, a3, a4, a5, a6, a7, a8, a9)) : wL_lawOf_89 post mc ms (nI K) s (nI 0) (nI j) 1 0 0 1 kc ks f0 a1 a2 a3 a4 a5 a6 a7 a8 a9 := by
  refine br_t rfl (br_f (by decide) ?_)
  unfold wL_lawOf_114
  refine zx_putB hK hok (by decide) (hs.imp id Or.inl) (br_t rfl ?_)
  refine zx_putA hK hj hok (fun u hu => ?_)
  obtain ⟨f0, a1, a2, a3, a4, a5, a6, a7, a8, a9⟩ := u
  refine br_t rfl (br_f (by decide) ?_)
  refine nm_r (e' := nI 1) rfl ?_
  refine br_t rfl (br_t rfl (br_t rfl (br_f (by decide) (br_t rfl (br_f (by decide) (br_t rfl (br_f (by decide) ?_)))))))
  exact zx_fin hK (by decide) rfl (Or.inr ⟨by decide, rfl⟩) (Or.inl ⟨rfl, rfl⟩) (Or.inr ⟨by decide, rfl⟩) hp hu
theorem zx_cD {post : Int32 → St0 → Prop} {mc ms kc ks : Nat} {f0 : Int32} {a1 a2 a3 a4 a5 a6 a7 a8 a9 : Nat → Int32} {K : Nat} {sy : Nat → Nat} {p t : Int32} {i : Nat} (hK : K < 3) (hp : post 1 ()) (hi : i ≤ 25) (ht : t < 0 ∨ 25 < t ∨ p < 0 ∨ nI 1 < p) (hok : zx_ok K 0 [] sy (f0, a1, a2, a3, a4, a5, a6, a7, a8, a9)) : wL_lawOf_89 post mc ms (nI K) (nI i) p t 1 1 1 0 kc ks f0 a1 a2 a3 a4 a5 a6 a7 a8 a9 := by
  refine br_f (by decide) (br_t rfl ?_)
  unfold wL_lawOf_114
  refine zx_putA hK hi hok (fun u hu => ?_)
  obtain ⟨f0, a1, a2, a3, a4, a5, a6, a7, a8, a9⟩ := u
  refine br_t rfl ?_
  refine zx_putB hK hu (by decide) ht (br_t rfl (br_t rfl ?_))
  refine nm_r (e' := nI 1) rfl ?_
  refine br_f (by decide) (br_t rfl (br_t rfl (br_f (by decide) (br_f (by decide) (br_f (by decide) (br_t rfl (br_f (by decide) (br_t rfl (br_f (by decide) ?_)))))))))
  exact zx_fin hK (by decide) rfl (Or.inr ⟨by decide, rfl⟩) (Or.inl ⟨rfl, rfl⟩) (Or.inr ⟨by decide, rfl⟩) hp hu
theorem zx_cE {post : Int32 → St0 → Prop} {mc ms kc ks : Nat} {f0 : Int32} {a1 a2 a3 a4 a5 a6 a7 a8 a9 : Nat → Int32} {K : Nat} {sy : Nat → Nat} {i j : Nat} (hK : K < 3) (hp : post 1 ()) (hi : i ≤ 25) (hj : j ≤ 25) (hok : zx_ok K 0 [] sy (f0, a1, a2, a3, a4, a5, a6, a7, a8, a9)) : wL_lawOf_89 post mc ms (nI K) (nI i) (nI 0) (nI j) 1 1 1 1 kc ks f0 a1 a2 a3 a4 a5 a6 a7 a8 a9 := by
  refine br_f (by decide) (br_f (by decide) ?_)
  unfold wL_lawOf_114
  refine zx_putA hK hi hok (fun u hu => ?_)
  obtain ⟨f0, a1, a2, a3, a4, a5, a6, a7, a8, a9⟩ := u
  refine br_t rfl ?_
  refine zx_putF hK hj hu (fun u hu => ?_)
  obtain ⟨f0, a1, a2, a3, a4, a5, a6, a7, a8, a9⟩ := u
  refine br_t rfl (br_f (by decide) ?_)
  refine nm_r (e' := nI 2) rfl ?_
  refine br_f (by decide) (br_f (by decide) (br_t rfl (br_f (by decide) (br_f (by decide) (br_f (by decide) (br_f (by decide) (br_f (by decide) (br_f (by decide) (br_f (by decide) ?_)))))))))
  exact zx_fin hK (by decide) rfl (Or.inr ⟨by decide, rfl⟩) (Or.inr ⟨by decide, rfl⟩) (Or.inr ⟨by decide, rfl⟩) hp hu
theorem zx_cF {post : Int32 → St0 → Prop} {mc ms kc ks : Nat} {f0 : Int32} {a1 a2 a3 a4 a5 a6 a7 a8 a9 : Nat → Int32} {K : Nat} {sy : Nat → Nat} {i j : Nat} (hK : K < 3) (hp : post 1 ()) (hi : i ≤ 25) (hj : j ≤ 25) (hok : zx_ok K 0 [] sy (f0, a1, a2, a3, a4, a5, a6, a7, a8, a9)) : wL_lawOf_89 post mc ms (nI K) (nI i) (nI 1) (nI j) 1 1 1 1 kc ks f0 a1 a2 a3 a4 a5 a6 a7 a8 a9 := by
  refine br_f (by decide) (br_f (by decide) ?_)
  unfold wL_lawOf_114
  refine zx_putA hK hi hok (fun u hu => ?_)
  obtain ⟨f0, a1, a2, a3, a4, a5, a6, a7, a8, a9⟩ := u
  refine br_t rfl ?_
  refine zx_putL hK hj hu (fun u hu => ?_)
  obtain ⟨f0, a1, a2, a3, a4, a5, a6, a7, a8, a9⟩ := u
  refine br_t rfl (br_f (by decide) ?_)
  refine nm_r (e' := nI 2) rfl ?_
  refine br_f (by decide) (br_f (by decide) (br_f (by decide) (br_t rfl (br_f (by decide) (br_f (by decide) (br_f (by decide) (br_f (by decide) (br_t rfl (br_f (by decide) (br_t rfl (br_f (by decide) ?_)))))))))))
  exact zx_fin hK (by decide) rfl (Or.inr ⟨by decide, rfl⟩) (Or.inr ⟨by decide, rfl⟩) (Or.inr ⟨by decide, rfl⟩) hp hu
end
section
theorem zx_init {post : St2 → Prop} {f0 : Int32} (hp : post (f0, (fun _ => 0), (fun _ => 0), (fun _ => 0), (fun _ => 0), (fun _ => 0), (fun _ => 0), (fun _ => 0), (fun _ => 0), upd (upd (upd (fun _ => 0) 30 30) 61 30) 92 30)) : wpX_init post 9 252 f0 := by
  unfold wpX_init
  refine ⟨by decide, by decide, by decide, by decide, by decide, by decide, by decide, by decide, by decide, by decide, by decide, by decide, by decide, by decide, by decide, by decide, by decide, by decide, 4, ?_⟩
  refine br_f (by decide) (And.intro (pk_in 30 93 (by decide)) (nm_r (e' := upd (fun _ => 0) 30 30) (by rw [show ((0 : Int32) * 31 + 30).toNatClampNeg = 30 by decide]) (nm_r (e' := 1) rfl ?_)))
  refine br_f (by decide) (And.intro (pk_in 61 93 (by decide)) (nm_r (e' := upd (upd (fun _ => 0) 30 30) 61 30) (by rw [show ((1 : Int32) * 31 + 30).toNatClampNeg = 61 by decide]) (nm_r (e' := 2) rfl ?_)))
  refine br_f (by decide) (And.intro (pk_in 92 93 (by decide)) (nm_r (e' := upd (upd (upd (fun _ => 0) 30 30) 61 30) 92 30) (by rw [show ((2 : Int32) * 31 + 30).toNatClampNeg = 92 by decide]) (nm_r (e' := 3) rfl ?_)))
  exact br_t (by decide) hp
theorem zx_ok0 {K : Nat} (hK : K < 3) : zx_ok K 0 [] (fun _ => 0) (0, (fun _ => 0), (fun _ => 0), (fun _ => 0), (fun _ => 0), (fun _ => 0), (fun _ => 0), (fun _ => 0), (fun _ => 0), upd (upd (upd (fun _ => 0) 30 30) 61 30) 92 30) := by
  refine ⟨rfl, fun j hj => absurd hj (by omega), fun j hj => absurd hj (by omega), fun j hj => absurd hj (by omega), rfl, rfl, rfl, ?_⟩
  show upd (upd (upd (fun _ => 0) 30 30) 61 30) 92 30 (K * 31 + 30) = 30
  rcases (show K = 0 ∨ K = 1 ∨ K = 2 by omega) with e | e | e <;> subst e <;> rfl
theorem zx_two {x : Int32} (h : nI 3 ≤ x) : 2 < x := by
  have h1 := Int32.le_iff_toInt_le.mp h
  rw [show (nI 3).toInt = 3 by decide] at h1
  refine Int32.lt_iff_toInt_lt.mpr ?_
  rw [show (2 : Int32).toInt = 2 by decide]
  omega
theorem zx_in0 {post : Int32 → St0 → Prop} {mc ms kc ks : Nat} {f0 : Int32} {a1 a2 a3 a4 a5 a6 a7 a8 a9 : Nat → Int32} {K : Nat} {sy : Nat → Nat} {s p t : Int32} (hK : K < 3) (hp : post 1 ()) (hs : s < 0 ∨ 25 < s) (hok : zx_ok K 0 [] sy (f0, a1, a2, a3, a4, a5, a6, a7, a8, a9)) : wL_lawOf_45 post mc ms (nI K) s p t 1 0 kc ks f0 a1 a2 a3 a4 a5 a6 a7 a8 a9 := by
  refine br_t rfl ?_
  refine br_f (by decide) (br_c (fun h => zx_cB hK hp hs (Or.inl h) hok) (fun h1 => br_c (fun h => zx_cB hK hp hs (Or.inr (Or.inl h)) hok) (fun h2 => br_c (fun h => zx_cB hK hp hs (Or.inr (Or.inr (Or.inl h))) hok) (fun h3 => br_c (fun h => zx_cB hK hp hs (Or.inr (Or.inr (Or.inr h))) hok) (fun h4 => ?_)))))
  obtain ⟨j, hj, e⟩ := nI_of2 (M := 25) (n := 25) (by decide) h1 (Int32.not_lt.mp h2)
  obtain ⟨q, hq, e'⟩ := nI_of2 (M := 0) (n := 0) (by decide) h3 (Int32.not_lt.mp h4)
  have hq0 : q = 0 := by omega
  subst e e' hq0
  exact zx_cC hK hp hs hj hok
theorem zx_in1 {post : Int32 → St0 → Prop} {mc ms kc ks : Nat} {f0 : Int32} {a1 a2 a3 a4 a5 a6 a7 a8 a9 : Nat → Int32} {K i : Nat} {sy : Nat → Nat} {p t : Int32} (hK : K < 3) (hp : post 1 ()) (hi : i ≤ 25) (hok : zx_ok K 0 [] sy (f0, a1, a2, a3, a4, a5, a6, a7, a8, a9)) : wL_lawOf_45 post mc ms (nI K) (nI i) p t 1 1 kc ks f0 a1 a2 a3 a4 a5 a6 a7 a8 a9 := by
  refine br_f (by decide) ?_
  refine br_f (by decide) (br_c (fun h => zx_cD hK hp hi (Or.inl h) hok) (fun h1 => br_c (fun h => zx_cD hK hp hi (Or.inr (Or.inl h)) hok) (fun h2 => br_c (fun h => zx_cD hK hp hi (Or.inr (Or.inr (Or.inl h))) hok) (fun h3 => br_c (fun h => zx_cD hK hp hi (Or.inr (Or.inr (Or.inr h))) hok) (fun h4 => ?_)))))
  obtain ⟨j, hj, e⟩ := nI_of2 (M := 25) (n := 25) (by decide) h1 (Int32.not_lt.mp h2)
  obtain ⟨q, hq, e'⟩ := nI_of2 (M := 1) (n := 1) (by decide) h3 (Int32.not_lt.mp h4)
  subst e e'
  rcases (show q = 0 ∨ q = 1 by omega) with e | e
  · subst e
    exact zx_cE hK hp hi hj hok
  · subst e
    exact zx_cF hK hp hi hj hok
theorem zx_law (x s p t : Int32) : wpL_lawOf (fun r _ => r = 1) 10 262 () x s p t := by
  unfold wpL_lawOf
  refine ⟨by decide, by decide, 9, 252, by decide, by decide, zx_init ?_⟩
  rcases pk_ix x (n := 3) (by decide) with h | h | ⟨K, hK, e⟩
  · refine br_t h ?_
    refine br_t rfl (br_t rfl (br_t rfl ?_))
    exact zx_cA (Or.inl h) rfl rfl
  · refine br_c (fun _ => ?_) (fun _ => br_t (zx_two h) ?_)
    · refine br_t rfl (br_t rfl (br_t rfl ?_))
      exact zx_cA (Or.inr h) rfl rfl
    · refine br_t rfl (br_t rfl (br_t rfl ?_))
      exact zx_cA (Or.inr h) rfl rfl
  · subst e
    refine br_f (nI_pos (by omega)) (br_f (nI_nlt (a := 2) (by omega) (by decide)) ?_)
    refine br_f (by decide) (br_c (fun h => zx_in0 hK rfl (Or.inl h) (zx_ok0 hK)) (fun h1 => br_c (fun h => zx_in0 hK rfl (Or.inr h) (zx_ok0 hK)) (fun h2 => ?_)))
    obtain ⟨i, hi, e⟩ := nI_of2 (M := 25) (n := 25) (by decide) h1 (Int32.not_lt.mp h2)
    subst e
    exact zx_in1 hK rfl hi (zx_ok0 hK)
theorem zx_cell {post : Int32 → Prop} {xs : Nat → Int32} {L : Nat} (hL : L ≤ 4) (k : Nat) (hk : k < 4) (H : ∀ r, post r) : wpL_cellAt post L xs () (nI k) := by
  unfold wpL_cellAt
  exact pk_le L k (fun _ => H 0) (fun h => ⟨pk_in k L h, H _⟩)
theorem i_vc (xs : Nat → Int32) (L : Nat) (hL : L ≤ 4) : wpL_law (fun r => r = 1) L xs := by
  unfold wpL_law
  exact zx_cell hL 0 (by decide) (fun r1 => zx_cell hL 1 (by decide) (fun r2 => zx_cell hL 2 (by decide) (fun r3 => zx_cell hL 3 (by decide) (fun r4 => ⟨10, 262, by decide, by decide, zx_law r1 r2 r3 r4⟩))))
end
