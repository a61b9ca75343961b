section
/-- one bit set: bit j of 1 << k -/
theorem sj_bit : ∀ k, k < 30 → ∀ j, j < 30 → (((1 : Int32) <<< (nI k &&& 31)) >>> (nI j &&& 31)) &&& 1 = nI (if j = k then 1 else 0) := by decide +kernel
theorem sj_bit1 {k : Nat} (hk : k < 30) : (((1 : Int32) <<< (nI k &&& 31)) >>> (nI k &&& 31)) &&& 1 = 1 := by
  rw [sj_bit k hk k hk, if_pos rfl]
  rfl
theorem sj_bit0 {k j : Nat} (hk : k < 30) (hj : j < 30) (h : j ≠ k) : (((1 : Int32) <<< (nI k &&& 31)) >>> (nI j &&& 31)) &&& 1 = 0 := by
  rw [sj_bit k hk j hj, if_neg h]
  rfl
theorem sj_bitz : ∀ j, j < 30 → ((0 : Int32) >>> (nI j &&& 31)) &&& 1 = 0 := by decide +kernel
/-- how many ranks of a set of one are looked at: (t + b - 1) / b = 1 -/
theorem sj_d1 : ∀ b, b < 13 → ∀ t, t < 13 → 1 ≤ t → t ≤ b → ((nI t * 1 + nI b) - 1) / nI b = 1 := by decide +kernel
/-- what two sets of one must share: (2 t + (t + b) - 1) / (t + b) = 1 -/
theorem sj_d2 : ∀ b, b < 13 → ∀ t, t < 13 → 1 ≤ t → t ≤ b → ((nI t * (1 + 1)) + nI (t + b) - 1) / nI (t + b) = 1 := by decide +kernel
theorem sj_ix (l j : Nat) : (12 : Int32) * nI l + nI j = nI (12 * l + j) := by
  rw [show (12 : Int32) = nI 12 from rfl, pk_mul, nI_add]
theorem sj_ix0 (l : Nat) : (12 : Int32) * nI l + 0 = nI (12 * l) := sj_ix l 0
theorem sj_fill {f s : Nat → Int32} {i k : Nat} {x : Int32} (hk : k = i) (h : ∀ j, j < i → s j = f j) (hx : x = f i) : ∀ j, j < i + 1 → upd s k x j = f j := by
  intro j hj
  rw [hk]
  by_cases e : j = i
  · rw [e, pk_us, hx]
  · rw [pk_un e]
    exact h j (by omega)
/-- how many of the first n tokens come before token i -/
def sj_bf (a : Nat → Int32) (i : Nat) : Nat → Nat
  | 0 => 0
  | s + 1 => sj_bf a i s + (if a s < a i ∨ (a s = a i ∧ s < i) then 1 else 0)
theorem sj_bf_t {a : Nat → Int32} {i s : Nat} (h : a s < a i ∨ (a s = a i ∧ s < i)) : sj_bf a i (s + 1) = sj_bf a i s + 1 := by
  show sj_bf a i s + (if _ then 1 else 0) = _
  rw [if_pos h]
theorem sj_bf_f {a : Nat → Int32} {i s : Nat} (h : ¬ (a s < a i ∨ (a s = a i ∧ s < i))) : sj_bf a i (s + 1) = sj_bf a i s := by
  show sj_bf a i s + (if _ then 1 else 0) = _
  rw [if_neg h]
  rfl
/-- the one token that a record has is the most frequent: 29 come before it -/
theorem sj_bf29 {a : Nat → Int32} {k : Nat} (hk : k < 30) (h1 : a k = 1) (h0 : ∀ j, j < 30 → j ≠ k → a j = 0) : sj_bf a k 30 = 29 := by
  have main : ∀ n, n ≤ 30 → sj_bf a k n = if k < n then n - 1 else n := by
    intro n
    induction n with
    | zero => intro _; rfl
    | succ n ih =>
      intro hn
      have ihn := ih (by omega)
      by_cases e : n = k
      · rw [sj_bf_f (by rw [e]; rintro (z | z)
                        · rw [h1] at z; exact absurd z (by decide)
                        · exact absurd z.2 (by omega)), ihn, if_neg (by omega), if_pos (by omega)]
        omega
      · rw [sj_bf_t (Or.inl (by rw [h1, h0 n (by omega) e]; decide)), ihn]
        by_cases g : k < n
        · rw [if_pos g, if_pos (by omega)]; omega
        · rw [if_neg g, if_neg (by omega)]
  rw [main 30 (by omega), if_pos hk]
end
section
section
variable {dr ds c T B cu : Int32} {a1 a2 a3 a4 a5 a6 a7 a8 : Nat → Int32}
theorem sj_68 {post : St2 → Prop} {J : Int32 → (Nat → Int32) → (Nat → Int32) → (Nat → Int32) → (Nat → Int32) → (Nat → Int32) → (Nat → Int32) → (Nat → Int32) → (Nat → Int32) → Prop} {i : Nat} (hi : i < 30)
    (H : J (nI (i + 1)) a1 a2 a3 (upd a4 i (nI (sj_bf a5 i 30))) a5 a6 a7 a8) : ∃ n, wX_rankTokens_68 post J (nI i) dr ds c T B cu a1 a2 a3 a4 a5 a6 a7 a8 n 0 0 := by
  refine pk_loop (σ := Unit) (fun n s _ => wX_rankTokens_68 post J (nI i) dr ds c T B cu a1 a2 a3 a4 a5 a6 a7 a8 n (nI (sj_bf a5 i s)) (nI s)) (fun _ _ => True) 30 0 () (by omega) trivial ?_ ?_
  · intro n _ _
    refine pk_le 30 30 (fun _ => ⟨pk_in i 30 hi, nm_e (nm_r (nI_1 i) ?_)⟩) (fun z => absurd z (by omega))
    rw [nI_clamp (show i < 2 ^ 31 by omega)]
    exact H
  · intro n s _ hs _ hw
    have hw' : wX_rankTokens_68 post J (nI i) dr ds c T B cu a1 a2 a3 a4 a5 a6 a7 a8 n (nI (sj_bf a5 i (s + 1))) (nI (s + 1)) := hw () trivial
    refine pk_le 30 s (fun z => absurd z (by omega)) (fun _ => ⟨pk_in s 30 hs, pk_in i 30 hi, ?_⟩)
    rw [nI_clamp (show s < 2 ^ 31 by omega), nI_clamp (show i < 2 ^ 31 by omega)]
    refine br_c (fun g => nm_r (nI_1 _) (nm_r (nI_1 s) ?_)) (fun g => ⟨pk_in s 30 hs, pk_in i 30 hi, br_c (fun g2 => pk_le i s (fun z => nm_r (nI_1 s) ?_) (fun z => nm_r (nI_1 _) (nm_r (nI_1 s) ?_))) (fun g2 => nm_r (nI_1 s) ?_)⟩)
    · rw [sj_bf_t (Or.inl g)] at hw'
      exact hw'
    · rw [sj_bf_f (fun t => t.elim g (fun t => absurd t.2 (by omega)))] at hw'
      exact hw'
    · rw [sj_bf_t (Or.inr ⟨g2, z⟩)] at hw'
      exact hw'
    · rw [sj_bf_f (fun t => t.elim g (fun t => g2 t.1))] at hw'
      exact hw'
theorem sj_58 {post : St2 → Prop} (H : ∀ a4', (∀ j, j < 30 → a4' j = nI (sj_bf a5 j 30)) → post (dr, ds, c, T, B, cu, a1, a2, a3, a4', a5, a6, a7, a8)) :
    ∃ n, wX_rankTokens_58 post dr ds c T B cu n 0 a1 a2 a3 a4 a5 a6 a7 a8 :=
  pk_loop (fun n i s => wX_rankTokens_58 post dr ds c T B cu n (nI i) a1 a2 a3 s a5 a6 a7 a8) (fun i s => ∀ j, j < i → s j = nI (sj_bf a5 j 30)) 30 0 a4 (by omega) (fun j hj => absurd hj (by omega))
    (fun n s h => pk_le 30 30 (fun _ => H s h) (fun z => absurd z (by omega)))
    (fun n i s hi h hw => pk_le 30 i (fun z => absurd z (by omega)) (fun _ => sj_68 hi (hw _ (sj_fill (f := fun j => nI (sj_bf a5 j 30)) rfl h rfl))))
theorem sj_170 {post : St2 → Prop} {J : Int32 → (Nat → Int32) → (Nat → Int32) → (Nat → Int32) → (Nat → Int32) → (Nat → Int32) → (Nat → Int32) → (Nat → Int32) → (Nat → Int32) → Prop} {i : Nat}
    (H : J (nI (i + 1)) a1 a2 a3 a4 a5 a6 a7 a8) : ∃ n, wX_rankTokens_17 post J (nI i) dr ds 0 T B cu n 0 a1 a2 a3 a4 a5 a6 a7 a8 :=
  ⟨1, pk_le 0 0 (fun _ => nm_r (nI_1 i) H) (fun z => absurd z (by omega))⟩
theorem sj_171 {post : St2 → Prop} {J : Int32 → (Nat → Int32) → (Nat → Int32) → (Nat → Int32) → (Nat → Int32) → (Nat → Int32) → (Nat → Int32) → (Nat → Int32) → (Nat → Int32) → Prop} {i : Nat} (hi : i < 30)
    (H : J (nI (i + 1)) a1 a2 a3 a4 (upd a5 i (a5 i + (((a1 0) >>> (nI i &&& 31)) &&& 1))) a6 a7 a8) : ∃ n, wX_rankTokens_17 post J (nI i) dr ds 1 T B cu n 0 a1 a2 a3 a4 a5 a6 a7 a8 :=
  ⟨2, pk_le 1 0 (fun z => absurd z (by omega)) (fun _ => ⟨pk_in i 30 hi, pk_in 0 20 (by omega), pk_in i 30 hi, nm_r (e' := upd a5 i (a5 i + (((a1 0) >>> (nI i &&& 31)) &&& 1))) (by rw [nI_clamp (show i < 2 ^ 31 by omega), sb_cl0]) (nm_r (e' := nI 1) (by decide) (pk_le 1 1 (fun _ => nm_r (nI_1 i) H) (fun z => absurd z (by omega))))⟩)⟩
theorem sj_rank0 {post : St2 → Prop} (H : ∀ a4' a5', post (dr, ds, 0, T, B, cu, a1, a2, a3, a4', a5', a6, a7, a8)) : wpX_rankTokens post (dr, ds, 0, T, B, cu, a1, a2, a3, a4, a5, a6, a7, a8) :=
  pk_loop (fun n i s => wX_rankTokens_2 post dr ds 0 T B cu n (nI i) a1 a2 a3 a4 s a6 a7 a8) (fun _ _ => True) 30 0 a5 (by omega) trivial
    (fun n s _ => pk_le 30 30 (fun _ => sj_58 (fun a4' _ => H a4' s)) (fun z => absurd z (by omega)))
    (fun n i s hi _ hw => pk_le 30 i (fun z => absurd z (by omega)) (fun _ => ⟨pk_in i 30 hi, nm_e (sj_170 (hw _ trivial))⟩))
theorem sj_rank1 {post : St2 → Prop} (H : ∀ a4' a5', (∀ j, j < 30 → a4' j = nI (sj_bf a5' j 30)) → (∀ j, j < 30 → a5' j = ((a1 0) >>> (nI j &&& 31)) &&& 1) → post (dr, ds, 1, T, B, cu, a1, a2, a3, a4', a5', a6, a7, a8)) :
    wpX_rankTokens post (dr, ds, 1, T, B, cu, a1, a2, a3, a4, a5, a6, a7, a8) := by
  refine pk_loop (fun n i s => wX_rankTokens_2 post dr ds 1 T B cu n (nI i) a1 a2 a3 a4 s a6 a7 a8) (fun i s => ∀ j, j < i → s j = ((a1 0) >>> (nI j &&& 31)) &&& 1) 30 0 a5 (by omega) (fun j hj => absurd hj (by omega)) ?_ ?_
  · intro n s h
    exact pk_le 30 30 (fun _ => sj_58 (fun a4' h4 => H a4' s h4 h)) (fun z => absurd z (by omega))
  · intro n i s hi h hw
    refine pk_le 30 i (fun z => absurd z (by omega)) (fun _ => ⟨pk_in i 30 hi, nm_r (e' := upd s i 0) (by rw [nI_clamp (show i < 2 ^ 31 by omega)]) (sj_171 hi (hw _ ?_))⟩)
    intro j hj
    by_cases e : j = i
    · rw [e, pk_us, pk_us]
      exact Int32.zero_add _
    · rw [pk_un e, pk_un e]
      exact h j (by omega)
/-- one record of the one token k: k's rank is 29 -/
theorem sj_rank29 {post : St2 → Prop} {k : Nat} (hk : k < 30) (h1 : a1 0 = (1 : Int32) <<< (nI k &&& 31)) (H : ∀ a4' a5', a4' k = nI 29 → post (dr, ds, 1, T, B, cu, a1, a2, a3, a4', a5', a6, a7, a8)) :
    wpX_rankTokens post (dr, ds, 1, T, B, cu, a1, a2, a3, a4, a5, a6, a7, a8) :=
  sj_rank1 (fun a4' a5' h4 h5 => H a4' a5' (by
    rw [h4 k hk, sj_bf29 hk (by rw [h5 k hk, h1]; exact sj_bit1 hk) (fun j hj e => by rw [h5 j hj, h1]; exact sj_bit0 hk hj e)]))
end
end
section
section
variable {dr ds c T B cu : Int32} {a1 a2 a3 a4 a5 a6 a7 a8 : Nat → Int32}
/-- no bit set: nothing is written -/
theorem sj_sp0 {post : St2 → Prop} {l : Int32} (H : post (dr, ds, c, T, B, cu, a1, a2, a3, a4, a5, a6, a7, a8)) : wpX_spell post (dr, ds, c, T, B, cu, a1, a2, a3, a4, a5, a6, a7, a8) l 0 :=
  pk_loop (σ := Unit) (fun n i _ => wX_spell_5 post l 0 dr ds c T B cu n 0 (nI i) a1 a2 a3 a4 a5 a6 a7 a8) (fun _ _ => True) 30 0 () (by omega) trivial
    (fun n _ _ => pk_le 30 30 (fun _ => H) (fun z => absurd z (by omega)))
    (fun n i _ hi _ hw => pk_le 30 i (fun z => absurd z (by omega)) (fun _ => br_f (by rw [sj_bitz i hi]; decide) (nm_r (nI_1 i) (hw () trivial))))
/-- one bit set: its rank is written at the line's first place -/
theorem sj_sp1 {post : St2 → Prop} {l k : Nat} (hl : l ≤ 20) (hk : k < 30) (H : post (dr, ds, c, T, B, cu, a1, a2, upd a3 (12 * l) (a4 k), a4, a5, a6, a7, a8)) :
    wpX_spell post (dr, ds, c, T, B, cu, a1, a2, a3, a4, a5, a6, a7, a8) (nI l) ((1 : Int32) <<< (nI k &&& 31)) := by
  refine pk_loop (σ := Int32 × (Nat → Int32)) (fun n i s => wX_spell_5 post (nI l) ((1 : Int32) <<< (nI k &&& 31)) dr ds c T B cu n s.1 (nI i) a1 a2 s.2 a4 a5 a6 a7 a8)
    (fun i s => (i ≤ k ∧ s = (0, a3)) ∨ (k < i ∧ s = (1, upd a3 (12 * l) (a4 k)))) 30 0 (0, a3) (by omega) (Or.inl ⟨by omega, rfl⟩) ?_ ?_
  · intro n s h
    rcases h with h | ⟨_, rfl⟩
    · exact absurd h.1 (by omega)
    · exact pk_le 30 30 (fun _ => H) (fun z => absurd z (by omega))
  · intro n i s hi h hw
    rcases h with ⟨h, rfl⟩ | ⟨h, rfl⟩
    · by_cases e : i = k
      · rw [e] at hw ⊢
        have hw' : wX_spell_5 post (nI l) ((1 : Int32) <<< (nI k &&& 31)) dr ds c T B cu n 1 (nI (k + 1)) a1 a2 (upd a3 (12 * l) (a4 k)) a4 a5 a6 a7 a8 := hw (1, upd a3 (12 * l) (a4 k)) (Or.inr ⟨by omega, rfl⟩)
        refine pk_le 30 k (fun z => absurd z (by omega)) (fun _ => br_t (sj_bit1 hk) (pk_le 12 0 (fun z => absurd z (by omega)) (fun _ => ⟨1, pk_le 0 0 (fun _ => ⟨pk_in k 30 hk, pk_in (12 * l) 252 (by omega) (sj_ix0 l), nm_r (e' := upd a3 (12 * l) (a4 k)) ?_ (nm_r (e' := 1) (show (0 : Int32) + 1 = 1 by decide) (nm_r (nI_1 k) hw'))⟩) (fun z => absurd z (by omega))⟩)))
        show upd a3 ((12 : Int32) * nI l + 0).toNatClampNeg (a4 (nI k).toNatClampNeg) = _
        rw [sj_ix0, nI_clamp (show k < 2 ^ 31 by omega), nI_clamp (show 12 * l < 2 ^ 31 by omega)]
      · exact pk_le 30 i (fun z => absurd z (by omega)) (fun _ => br_f (by rw [sj_bit0 hk hi e]; decide) (nm_r (nI_1 i) (hw (0, a3) (Or.inl ⟨by omega, rfl⟩))))
    · exact pk_le 30 i (fun z => absurd z (by omega)) (fun _ => br_f (by rw [sj_bit0 hk hi (by omega)]; decide) (nm_r (nI_1 i) (hw (1, upd a3 (12 * l) (a4 k)) (Or.inr ⟨by omega, rfl⟩))))
theorem sj_pl {post : Int32 → Prop} {t b : Nat} (ht : 1 ≤ t) (htb : t ≤ b) (hb : b ≤ 12) (H : post 1) : wpX_prefixLength post (dr, ds, c, nI t, nI b, cu, a1, a2, a3, a4, a5, a6, a7, a8) 1 :=
  pk_le b 0 (fun z => absurd z (by omega)) (fun _ => ⟨nI_ne0 (by omega) (by omega), nm_r (e' := 1) (sj_d1 b (by omega) t (by omega) ht htb) H⟩)
/-- two lines of one and the same rank are alike -/
theorem sj_vf {post : Int32 → Prop} {l t b : Nat} (hl : l ≤ 20) (ht : 1 ≤ t) (htb : t ≤ b) (hb : b ≤ 12) (h2 : a2 0 = 1) (h3 : a3 (12 * l) = nI 29) (h30 : a3 0 = nI 29) (H : post 1) :
    wpX_verify post (dr, ds, c, nI t, nI b, cu, a1, a2, a3, a4, a5, a6, a7, a8) (nI l) 1 0 := by
  have h2' : a2 (0 : Int32).toNatClampNeg = 1 := h2
  have e3 : a3 ((12 : Int32) * nI l + 0).toNatClampNeg = nI 29 := by rw [sj_ix0, nI_clamp (show 12 * l < 2 ^ 31 by omega), h3]
  have e30 : a3 ((12 : Int32) * 0 + 0).toNatClampNeg = nI 29 := h30
  refine nm_r (nI_add t b) ⟨pk_in 0 20 (by omega), pk_le (t + b) 0 (fun z => absurd z (by omega)) (fun _ => ⟨nI_ne0 (by omega) (by omega), nm_r (e' := 1) (by rw [h2']; exact sj_d2 b (by omega) t (by omega) ht htb) ⟨2, ?_⟩⟩)⟩
  refine pk_le 24 0 (fun z => absurd z (by omega)) (fun _ => pk_le 1 0 (fun z => absurd z (by omega)) (fun _ => ⟨pk_in 0 20 (by omega), pk_le 1 0 (fun z => absurd z (by omega)) (fun _ => ⟨pk_in 0 20 (by omega), br_t (by rw [h2']; decide) ⟨pk_in 0 20 (by omega), ?_⟩⟩) h2'⟩))
  rw [h2']
  refine br_t (by decide) ⟨pk_in (12 * l) 252 (by omega) (sj_ix0 l), nm_r e3 ⟨pk_in 0 252 (by omega), nm_r e30 (br_t rfl (nm_r (e' := 1) (by decide) (br_f (by decide) (nm_r (e' := 1) (by decide) (br_f (by decide) (nm_r (e' := 1) (by decide) (nm_r (e' := 1) (by decide) ?_)))))))⟩⟩
  exact pk_le 24 1 (fun z => absurd z (by omega)) (fun _ => pk_le 1 1 (fun _ => br_f (by decide) H) (fun z => absurd z (by omega)))
/-- the one record is found from any line that holds its rank -/
theorem sj_pr {post : Int32 → Prop} {l t b : Nat} (hl : l ≤ 20) (ht : 1 ≤ t) (htb : t ≤ b) (hb : b ≤ 12) (h2 : a2 0 = 1) (h3 : a3 (12 * l) = nI 29) (h30 : a3 0 = nI 29) (h6 : a6 29 = 1) (H : post 1) :
    wpX_probe post (dr, ds, 1, nI t, nI b, cu, a1, a2, a3, a4, a5, a6, a7, a8) (nI l) 1 := by
  have h2' : a2 (0 : Int32).toNatClampNeg = 1 := h2
  have e3 : a3 ((12 : Int32) * nI l + 0).toNatClampNeg = nI 29 := by rw [sj_ix0, nI_clamp (show 12 * l < 2 ^ 31 by omega), h3]
  have hB : nI b * a2 (0 : Int32).toNatClampNeg = nI b := by rw [h2', Int32.mul_one]
  have hT : nI t * a2 (0 : Int32).toNatClampNeg = nI t := by rw [h2', Int32.mul_one]
  refine br_f (by decide) (sj_pl ht htb hb ⟨2, pk_le 1 0 (fun z => absurd z (by omega)) (fun _ => ⟨pk_in (12 * l) 252 (by omega) (sj_ix0 l), pk_in 29 30 (by omega) e3, nm_r (e' := 1) (by rw [e3, nI_clamp (show 29 < 2 ^ 31 by omega), h6]; decide) (nm_r (e' := 1) (by decide) (pk_le 1 1 (fun _ => ⟨2, ?_⟩) (fun z => absurd z (by omega))))⟩)⟩)
  refine pk_le 1 0 (fun z => absurd z (by omega)) (fun _ => ⟨pk_in 0 20 (by omega), pk_lt b t (fun z => absurd z (by omega)) (fun _ => ⟨pk_in 0 20 (by omega), pk_lt b t (fun z => absurd z (by omega)) (fun _ => ?_) (Int32.mul_one _) hT⟩) hB (Int32.mul_one _)⟩)
  exact br_t (by decide) (br_f (by decide) (sj_vf hl ht htb hb h2 h3 h30 (br_f (by decide) (nm_r (e' := 1) (by decide) (nm_r (e' := 1) (by decide) (pk_le 1 1 (fun _ => H) (fun z => absurd z (by omega))))))))
theorem sj_19 {post : St2 → Prop} (H : ∀ a6', (∀ j, j < 30 → a6' j = 0) → ∃ n, wX_refresh_40 post n 0 dr ds c T B cu a1 a2 a3 a4 a5 a6' a7 a8) : ∃ n, wX_refresh_19 post dr ds c T B cu n 0 a1 a2 a3 a4 a5 a6 a7 a8 :=
  pk_loop (fun n i s => wX_refresh_19 post dr ds c T B cu n (nI i) a1 a2 a3 a4 a5 s a7 a8) (fun i s => ∀ j, j < i → s j = 0) 30 0 a6 (by omega) (fun j hj => absurd hj (by omega))
    (fun n s h => pk_le 30 30 (fun _ => H s h) (fun z => absurd z (by omega)))
    (fun n i s hi h hw => pk_le 30 i (fun z => absurd z (by omega)) (fun _ => ⟨pk_in i 30 hi, nm_e (nm_r (nI_1 i) (hw _ (sj_fill (f := fun _ => 0) (nI_clamp (by omega)) h rfl)))⟩))
/-- no record: whatever refresh writes, nobody looks at it -/
theorem sj_rf0 {post : St2 → Prop} (H : ∀ a4' a5' a6', post (dr, ds, 0, T, B, 1, a1, a2, a3, a4', a5', a6', a7, a8)) : wpX_refresh post (dr, ds, 0, T, B, 0, a1, a2, a3, a4, a5, a6, a7, a8) :=
  br_t rfl (sj_rank0 (fun a4' a5' => sj_19 (fun a6' _ => ⟨1, pk_le 0 0 (fun _ => ⟨1, pk_le 0 0 (fun _ => ⟨1, pk_le 0 0 (fun _ => H a4' a5' a6') (fun z => absurd z (by omega))⟩) (fun z => absurd z (by omega))⟩) (fun z => absurd z (by omega))⟩)))
theorem sj_162 {post : St2 → Prop} (H : post (dr, ds, 1, T, B, cu, a1, a2, a3, a4, a5, a6, a7, a8)) : ∃ n, wX_refresh_162 post n 0 dr ds 1 T B cu a1 a2 a3 a4 a5 a6 a7 a8 :=
  ⟨2, pk_le 1 0 (fun z => absurd z (by omega)) (fun _ => nm_r (e' := 1) (by decide) ⟨1, pk_le 1 1 (fun _ => nm_r (e' := 1) (by decide) (pk_le 1 1 (fun _ => H) (fun z => absurd z (by omega)))) (fun z => absurd z (by omega))⟩)⟩
theorem sj_122 {post : St2 → Prop} {t b : Nat} (ht : 1 ≤ t) (htb : t ≤ b) (hb : b ≤ 12) (h2 : a2 0 = 1) (h30 : a3 0 = nI 29) (h6 : a6 29 = 1) (H : ∀ a7' a8', post (dr, ds, 1, nI t, nI b, cu, a1, a2, a3, a4, a5, a6, a7', a8')) :
    ∃ n, wX_refresh_122 post dr ds 1 (nI t) (nI b) cu n 0 a1 a2 a3 a4 a5 a6 a7 a8 := by
  have h2' : a2 (0 : Int32).toNatClampNeg = 1 := h2
  refine ⟨2, pk_le 1 0 (fun z => absurd z (by omega)) (fun _ => ⟨pk_in 0 20 (by omega), ?_⟩)⟩
  rw [h2']
  exact sj_pr (l := 0) (by omega) ht htb hb h2 h30 h30 h6 ⟨pk_in 0 20 (by omega), nm_e ⟨pk_in 0 20 (by omega), nm_e (nm_r (e' := 1) (by decide) (pk_le 1 1 (fun _ => sj_162 (H _ _)) (fun z => absurd z (by omega))))⟩⟩
theorem sj_40 {post : St2 → Prop} {k t b : Nat} (hk : k < 30) (ht : 1 ≤ t) (htb : t ≤ b) (hb : b ≤ 12) (h1 : a1 0 = (1 : Int32) <<< (nI k &&& 31)) (h2 : a2 0 = 1) (h4 : a4 k = nI 29) (h6 : ∀ j, j < 30 → a6 j = 0)
    (H : ∀ a3' a6' a7' a8', a3' 0 = nI 29 → a6' 29 = 1 → post (dr, ds, 1, nI t, nI b, cu, a1, a2, a3', a4, a5, a6', a7', a8')) :
    ∃ n, wX_refresh_40 post n 0 dr ds 1 (nI t) (nI b) cu a1 a2 a3 a4 a5 a6 a7 a8 := by
  have h1' : a1 (0 : Int32).toNatClampNeg = (1 : Int32) <<< (nI k &&& 31) := h1
  have h2' : a2 (0 : Int32).toNatClampNeg = 1 := h2
  have e3 : upd a3 (12 * 0) (a4 k) 0 = nI 29 := by
    show upd a3 0 (a4 k) 0 = nI 29
    rw [pk_us, h4]
  refine ⟨2, pk_le 1 0 (fun z => absurd z (by omega)) (fun _ => ⟨pk_in 0 20 (by omega), ?_⟩)⟩
  rw [h1']
  refine sj_sp1 (l := 0) (by omega) hk ⟨pk_in 0 20 (by omega), ?_⟩
  rw [h2']
  refine sj_pl ht htb hb ⟨2, pk_le 1 0 (fun z => absurd z (by omega)) (fun _ => ⟨pk_in 0 252 (by omega), nm_r (e' := nI 29) e3 ⟨pk_in 29 30 (by omega), pk_in 29 30 (by omega), nm_r (e' := upd a6 29 1) ?_ (nm_r (e' := 1) (by decide) (pk_le 1 1 (fun _ => nm_r (e' := 1) (by decide) ?_) (fun z => absurd z (by omega))))⟩⟩)⟩
  · rw [nI_clamp (show 29 < 2 ^ 31 by omega), h6 29 (by omega), sb_shl0]
    rfl
  · exact pk_le 1 1 (fun _ => sj_122 ht htb hb h2 e3 pk_us (fun a7' a8' => H _ _ a7' a8' e3 pk_us)) (fun z => absurd z (by omega))
/-- one record of the one token k -/
theorem sj_rf1 {post : St2 → Prop} {k t b : Nat} (hk : k < 30) (ht : 1 ≤ t) (htb : t ≤ b) (hb : b ≤ 12) (h1 : a1 0 = (1 : Int32) <<< (nI k &&& 31)) (h2 : a2 0 = 1)
    (H : ∀ a3' a4' a5' a6' a7' a8', a3' 0 = nI 29 → a4' k = nI 29 → a6' 29 = 1 → post (dr, ds, 1, nI t, nI b, 1, a1, a2, a3', a4', a5', a6', a7', a8')) :
    wpX_refresh post (dr, ds, 1, nI t, nI b, 0, a1, a2, a3, a4, a5, a6, a7, a8) :=
  br_t rfl (sj_rank29 hk h1 (fun a4' a5' h4 => sj_19 (fun a6' h6 => sj_40 hk ht htb hb h1 h2 h4 h6 (fun a3' a6'' a7' a8' h30 h629 => H a3' a4' a5' a6'' a7' a8' h30 h4 h629))))
theorem sj_on1 {post : Int32 → Prop} (H : post 1) : wpX_ones post () 1 :=
  nm_r (e' := 1) (by decide) (nm_r (e' := 1) (by decide) (nm_r (e' := 1) (by decide) (ek_v (P := post) (b := 1) (by decide) H)))
theorem sj_on0 {post : Int32 → Prop} (H : post 0) : wpX_ones post () 0 :=
  nm_r (e' := 0) (by decide) (nm_r (e' := 0) (by decide) (nm_r (e' := 0) (by decide) (ek_v (P := post) (b := 0) (by decide) H)))
/-- nothing stored, nothing in the draft: nothing matches -/
theorem sj_m0 {post : Int32 → St2 → Prop} (H : ∀ u, post 0 u) : wpX_matches post (0, 0, 0, T, B, 0, a1, a2, a3, a4, a5, a6, a7, a8) :=
  sj_rf0 (fun a4' a5' a6' => sj_sp0 (br_t rfl (sj_on0 (H _))))
/-- the one record is the draft itself: it matches -/
theorem sj_m1 {post : Int32 → St2 → Prop} {k t b : Nat} (hk : k < 30) (ht : 1 ≤ t) (htb : t ≤ b) (hb : b ≤ 12) (h1 : a1 0 = (1 : Int32) <<< (nI k &&& 31)) (h2 : a2 0 = 1) (H : ∀ u, post 1 u) :
    wpX_matches post ((1 : Int32) <<< (nI k &&& 31), 1, 1, nI t, nI b, 0, a1, a2, a3, a4, a5, a6, a7, a8) :=
  sj_rf1 hk ht htb hb h1 h2 (fun a3' a4' a5' a6' a7' a8' h30 h4 h6 => sj_sp1 (l := 20) (by omega) hk (sj_pr (l := 20) (by omega) ht htb hb h2 (by rw [pk_us, h4]) (by rw [pk_un (by omega), h30]) h6 (sj_on1 (H _))))
end
end
section
section
variable {dr ds c T B cu : Int32} {a1 a2 a3 a4 a5 a6 a7 a8 : Nat → Int32}
theorem sj_rng {x : Int32} (h1 : ¬ x < 1) (h2 : ¬ 12 < x) : ∃ j : Nat, 1 ≤ j ∧ j ≤ 12 ∧ x = nI j := by
  have e0 : (0 : Int32).toInt = 0 := by decide
  have e1 : (1 : Int32).toInt = 1 := by decide
  have e12 : (12 : Int32).toInt = 12 := by decide
  rw [Int32.lt_iff_toInt_lt] at h1 h2
  obtain ⟨j, hj, rfl⟩ := nI_of2 (x := x) (M := 12) (n := 12) (by decide) (by rw [Int32.lt_iff_toInt_lt]; omega) (by rw [Int32.le_iff_toInt_le]; omega)
  rw [nI_toInt (show j < 2 ^ 31 by omega)] at h1
  exact ⟨j, by omega, hj, rfl⟩
theorem sj_tok30 {x : Int32} (h1 : ¬ x < 0) (h2 : ¬ 29 < x) : ∃ j : Nat, j < 30 ∧ x = nI j := by
  have e29 : (29 : Int32).toInt = 29 := by decide
  obtain ⟨j, hj, e⟩ := nI_of2 (x := x) (M := 29) (n := 29) (by decide) h1 (by rw [Int32.lt_iff_toInt_lt] at h2; rw [Int32.le_iff_toInt_le]; omega)
  exact ⟨j, by omega, e⟩
theorem sj_ge30 {x : Int32} (h : 29 < x) : 30 ≤ x := by
  have e29 : (29 : Int32).toInt = 29 := by decide
  have e30 : (30 : Int32).toInt = 30 := by decide
  rw [Int32.lt_iff_toInt_lt] at h
  rw [Int32.le_iff_toInt_le]
  omega
theorem sj_nle12 {x : Int32} (h : 12 < x) : ¬ x ≤ 12 := by
  rw [Int32.lt_iff_toInt_lt] at h
  rw [Int32.le_iff_toInt_le]
  omega
theorem sj_le12 {x : Int32} (h : ¬ 12 < x) : x ≤ 12 := by
  rw [Int32.lt_iff_toInt_lt] at h
  rw [Int32.le_iff_toInt_le]
  omega
theorem sj_tot (x : Int32) : x < 0 ∨ 0 ≤ x := by
  rw [Int32.lt_iff_toInt_lt, Int32.le_iff_toInt_le]
  omega
theorem sj_tot1 {x : Int32} (h : ¬ x = 0) : x < 0 ∨ 1 ≤ x := by
  have e0 : (0 : Int32).toInt = 0 := by decide
  have e1 : (1 : Int32).toInt = 1 := by decide
  have h' : ¬ x.toInt = (0 : Int32).toInt := fun z => h (Int32.toInt_inj.mp z)
  rw [Int32.lt_iff_toInt_lt, Int32.le_iff_toInt_le]
  omega
/-! the small methods -/
theorem sj_tk0 {P : Int32 → St2 → Prop} {x : Int32} (h : x < 0 ∨ 30 ≤ x) (H : P (-1) (dr, ds, c, T, B, cu, a1, a2, a3, a4, a5, a6, a7, a8)) : wpX_token P (dr, ds, c, T, B, cu, a1, a2, a3, a4, a5, a6, a7, a8) x := by
  unfold wpX_token
  dsimp only
  exact br_c (fun _ => br_t rfl H) (fun g => br_t (h.resolve_left g) (br_t rfl H))
theorem sj_tk1 {P : Int32 → St2 → Prop} {k : Nat} (hk : k < 30) (H : P 1 ((1 : Int32) <<< (nI k &&& 31), 1, c, T, B, cu, a1, a2, a3, a4, a5, a6, a7, a8)) : wpX_token P (0, 0, c, T, B, cu, a1, a2, a3, a4, a5, a6, a7, a8) (nI k) := by
  unfold wpX_token
  dsimp only
  refine br_f (nI_pos (by omega)) (pk_le 30 k (fun z => absurd z (by omega)) (fun _ => br_f (by decide) (nm_e (br_t (Int32.zero_and) (br_f (by decide) (nm_r (e' := (1 : Int32) <<< (nI k &&& 31)) (Int32.zero_or) (nm_r (e' := 1) (by decide) H)))))))
theorem sj_st {P : Int32 → St2 → Prop} (H : P 0 (dr, 1, 1, T, B, 0, upd a1 0 dr, upd a2 0 1, a3, a4, a5, a6, a7, a8)) : wpX_store P (dr, 1, 0, T, B, cu, a1, a2, a3, a4, a5, a6, a7, a8) := by
  unfold wpX_store
  exact br_f (by decide) (br_f (by decide) ⟨pk_in 0 20 (by omega), nm_e ⟨pk_in 0 20 (by omega), nm_e (nm_r (e' := 1) (by decide) (ek_v (P := fun r => P r (dr, 1, 1, T, B, 0, upd a1 0 dr, upd a2 0 1, a3, a4, a5, a6, a7, a8)) (a := 1 - 1) (b := 0) (by decide) H))⟩⟩)
theorem sj_sz0 {P : Int32 → Prop} {x : Int32} (h : x < 0 ∨ c ≤ x) (H : P (-1)) : wpX_size P (dr, ds, c, T, B, cu, a1, a2, a3, a4, a5, a6, a7, a8) x := by
  unfold wpX_size
  dsimp only
  exact br_c (fun _ => br_t rfl H) (fun g => br_t (h.resolve_left g) (br_t rfl H))
theorem sj_sz1 {P : Int32 → Prop} (H : P (a2 0)) : wpX_size P (dr, ds, 1, T, B, cu, a1, a2, a3, a4, a5, a6, a7, a8) 0 := by
  unfold wpX_size
  dsimp only
  exact br_f (by decide) (br_f (by decide) (br_f (by decide) ⟨pk_in 0 20 (by omega), H⟩))
theorem sj_hs0 {P : Int32 → Prop} {x y : Int32} (h : x < 0 ∨ c ≤ x) (H : P (-1)) : wpX_has P (dr, ds, c, T, B, cu, a1, a2, a3, a4, a5, a6, a7, a8) x y := by
  unfold wpX_has
  dsimp only
  exact br_c (fun _ => br_t rfl H) (fun g => br_t (h.resolve_left g) (br_t rfl H))
theorem sj_hs2 {P : Int32 → Prop} {y : Int32} (h : y < 0 ∨ 30 ≤ y) (H : P (-2)) : wpX_has P (dr, ds, 1, T, B, cu, a1, a2, a3, a4, a5, a6, a7, a8) 0 y := by
  unfold wpX_has
  dsimp only
  exact br_f (by decide) (br_f (by decide) (br_f (by decide) (br_c (fun _ => br_t rfl H) (fun g => br_t (h.resolve_left g) (br_t rfl H)))))
theorem sj_hs1 {P : Int32 → Prop} {j : Nat} (hj : j < 30) (H : P (((a1 0) >>> (nI j &&& 31)) &&& 1)) : wpX_has P (dr, ds, 1, T, B, cu, a1, a2, a3, a4, a5, a6, a7, a8) 0 (nI j) := by
  unfold wpX_has
  dsimp only
  exact br_f (by decide) (br_f (by decide) (br_f (by decide) (br_f (nI_pos (by omega)) (pk_le 30 j (fun z => absurd z (by omega)) (fun _ => br_f (by decide) ⟨pk_in 0 20 (by omega), H⟩)))))
/-- the call of threshold: right each time, and behind it 1 ≤ top ≤ bottom ≤ 12 -/
theorem sj_thr {post : Int32 → St0 → Prop} {mc ms kc ks : Nat} {x0 x1 x2 x3 x4 x6 z : Int32}
    (H : ∀ t b : Nat, 1 ≤ t → t ≤ b → b ≤ 12 → ∀ r, wL_lawOf_123 post mc ms x0 x3 x4 x6 r r kc ks dr ds c (nI t) (nI b) 0 a1 a2 a3 a4 a5 a6 a7 a8) :
    wL_lawOf_62 post mc ms x0 x1 x2 x3 x4 x6 z z kc ks dr ds c 1 2 0 a1 a2 a3 a4 a5 a6 a7 a8 := by
  have H12 : ∀ r, wL_lawOf_123 post mc ms x0 x3 x4 x6 r r kc ks dr ds c 1 2 0 a1 a2 a3 a4 a5 a6 a7 a8 := H 1 2 (by omega) (by omega) (by omega)
  refine br_t rfl (br_c (fun g => br_t g (br_t rfl (H12 _))) (fun g1 => br_c (fun g => br_f g1 (br_t g (br_t rfl (H12 _)))) (fun g2 => br_c (fun g => br_f g1 (br_f g2 (br_t g (br_t rfl (H12 _))))) (fun g3 => br_c (fun g => br_f g1 (br_f g2 (br_f g3 (br_f (sj_nle12 g) (br_t rfl (H12 _)))))) (fun g4 => br_f g1 (br_f g2 (br_f g3 (br_t (sj_le12 g4) (br_c (fun g5 => br_f (by decide) (br_t g5 ?_)) (fun g5 => br_f (by decide) (br_f g5 (H12 _))))))))))))
  obtain ⟨t, t1, t2, rfl⟩ := sj_rng g1 g2
  obtain ⟨b, b1, b2, rfl⟩ := sj_rng g3 g4
  exact H t b t1 ((nI_leI (by omega) (by omega)).mp g5) b2 _
/-- has, then matches -/
theorem sj_214 {post : Int32 → St0 → Prop} {mc ms kc ks : Nat} {x3 x4 x6 z v : Int32} (hH : ∀ P : Int32 → Prop, P z → wpX_has P (dr, ds, c, T, B, cu, a1, a2, a3, a4, a5, a6, a7, a8) x3 x4)
    (hM : ∀ P : Int32 → St2 → Prop, (∀ u, P v u) → wpX_matches P (dr, ds, c, T, B, cu, a1, a2, a3, a4, a5, a6, a7, a8)) (hv : (x6 = 0 ∧ v = 0) ∨ (¬ x6 = 0 ∧ v = 1)) (H : post 1 ()) :
    wL_lawOf_214 post mc ms x3 x4 x6 z kc ks dr ds c T B cu a1 a2 a3 a4 a5 a6 a7 a8 := by
  unfold wL_lawOf_214
  refine hH _ (br_t rfl (hM _ (fun u => ?_)))
  obtain ⟨u1, u2, u3, u4, u5, u6, u7, u8, u9, u10, u11, u12, u13, u14⟩ := u
  rcases hv with ⟨h, rfl⟩ | ⟨h, rfl⟩
  · exact br_t h (br_t rfl H)
  · exact br_f h (br_t rfl H)
/-- no such record: size and has answer -1 -/
theorem sj_141 {post : Int32 → St0 → Prop} {mc ms kc ks : Nat} {x0 x3 x4 x6 v : Int32} (h : x3 < 0 ∨ c ≤ x3)
    (hM : ∀ P : Int32 → St2 → Prop, (∀ u, P v u) → wpX_matches P (dr, ds, c, T, B, cu, a1, a2, a3, a4, a5, a6, a7, a8)) (hv : (x6 = 0 ∧ v = 0) ∨ (¬ x6 = 0 ∧ v = 1)) (H : post 1 ()) :
    wL_lawOf_141 post mc ms x0 x3 x4 x6 kc ks dr ds c T B cu a1 a2 a3 a4 a5 a6 a7 a8 := by
  have K : wL_lawOf_214 post mc ms x3 x4 x6 (-1) kc ks dr ds c T B cu a1 a2 a3 a4 a5 a6 a7 a8 := sj_214 (fun P hP => sj_hs0 h hP) hM hv H
  unfold wL_lawOf_141 wL_lawOf_142
  exact sj_sz0 h (br_t rfl (br_t rfl (br_c (fun _ => br_t rfl K) (fun _ => br_c (fun _ => br_t rfl K) (fun _ => br_t rfl K)))))
/-- the one record is asked for -/
theorem sj_142 {post : Int32 → St0 → Prop} {mc ms kc ks : Nat} {x4 : Int32} {k : Nat} (hk : k < 30) (h1 : a1 0 = (1 : Int32) <<< (nI k &&& 31)) (h2 : a2 0 = 1)
    (hM : ∀ P : Int32 → St2 → Prop, (∀ u, P 1 u) → wpX_matches P (dr, ds, 1, T, B, cu, a1, a2, a3, a4, a5, a6, a7, a8)) (H : post 1 ()) :
    wL_lawOf_142 post mc ms (nI k) 0 x4 1 1 kc ks dr ds 1 T B cu a1 a2 a3 a4 a5 a6 a7 a8 := by
  have hv : ((1 : Int32) = 0 ∧ (1 : Int32) = 0) ∨ (¬ (1 : Int32) = 0 ∧ (1 : Int32) = 1) := Or.inr ⟨by decide, rfl⟩
  have K : (x4 < 0 ∨ 30 ≤ x4) → wL_lawOf_214 post mc ms 0 x4 1 (-2) kc ks dr ds 1 T B cu a1 a2 a3 a4 a5 a6 a7 a8 := fun h => sj_214 (fun P hP => sj_hs2 h hP) hM hv H
  unfold wL_lawOf_142
  refine sj_sz1 (br_f (by decide) (br_t h2 (br_c (fun g => br_f (by decide) (br_t rfl (K (Or.inl g)))) (fun g1 => br_c (fun g => br_f (by decide) (br_t rfl (K (Or.inr (sj_ge30 g))))) (fun g2 => br_f (by decide) (br_f (by decide) ?_))))))
  obtain ⟨j, hj, rfl⟩ := sj_tok30 g1 g2
  refine pk_eq j k (fun e => sj_214 (fun P hP => sj_hs1 hj ?_) hM hv H) (fun e => sj_214 (fun P hP => sj_hs1 hj ?_) hM hv H)
  · rw [e, h1, sj_bit1 hk]
    exact hP
  · rw [h1, sj_bit0 hk hj e]
    exact hP
theorem sj_made {post : Int32 → St0 → Prop} {mc ms kc ks : Nat} {x1 x2 x3 x4 : Int32} {k : Nat} (hk : k < 30) (H : post 1 ()) :
    wL_lawOf_24 post mc ms (nI k) x1 x2 x3 x4 1 kc ks 0 0 0 1 2 0 a1 a2 a3 a4 a5 a6 a7 a8 := by
  unfold wL_lawOf_24
  refine sj_tk1 hk (br_f (by decide) (br_t rfl (sj_st (br_f (by decide) (sj_thr (fun t b ht htb hb r => br_t rfl (br_f (by decide) (br_c (fun g => ?_) (fun g => ?_)))))))))
  · rw [g]
    exact sj_142 hk pk_us pk_us (fun P hP => sj_m1 hk ht htb hb pk_us pk_us hP) H
  · exact sj_141 (v := 1) (sj_tot1 g) (fun P hP => sj_m1 hk ht htb hb pk_us pk_us hP) (Or.inr ⟨by decide, rfl⟩) H
theorem sj_not {post : Int32 → St0 → Prop} {mc ms kc ks : Nat} {x0 x1 x2 x3 x4 : Int32} (h : x0 < 0 ∨ 30 ≤ x0) (H : post 1 ()) :
    wL_lawOf_23 post mc ms x0 x1 x2 x3 x4 kc ks 0 0 0 1 2 0 a1 a2 a3 a4 a5 a6 a7 a8 := by
  unfold wL_lawOf_23 wL_lawOf_24
  exact sj_tk0 h (br_t rfl (br_t rfl (br_t rfl (br_t rfl (sj_thr (fun t b ht htb hb r => br_t rfl (br_t rfl (sj_141 (v := 0) (sj_tot _) (fun P hP => sj_m0 hP) (Or.inl ⟨rfl, rfl⟩) H))))))))
theorem sj_law {post : Int32 → St0 → Prop} {x0 x1 x2 x3 x4 : Int32} (H : post 1 ()) : wpL_lawOf post 236 3776 () x0 x1 x2 x3 x4 := by
  refine ⟨by omega, by omega, 8, 422, by omega, by omega, ?_⟩
  refine ⟨by omega, by omega, by omega, by omega, by omega, by omega, by omega, by omega, by omega, by omega, by omega, by omega, by omega, by omega, by omega, by omega, ?_⟩
  refine br_c (fun g => sj_not (Or.inl g) H) (fun g1 => br_c (fun g => sj_not (Or.inr (sj_ge30 g)) H) (fun g2 => ?_))
  obtain ⟨k, hk, rfl⟩ := sj_tok30 g1 g2
  exact sj_made hk H
theorem sj_cell {post : Int32 → Prop} {xs : Nat → Int32} {L : Nat} (hL : L ≤ 5) (k : Nat) (hk : k < 5) (H : ∀ x, post x) : wpL_cellAt post L xs () (nI k) :=
  pk_le L k (fun _ => H 0) (fun z => ⟨pk_in k L z, H _⟩)
end
theorem i_vc (xs : Nat → Int32) (L : Nat) (hL : L ≤ 5) : wpL_law (fun r => r = 1) L xs :=
  sj_cell hL 0 (by omega) (fun _ => sj_cell hL 1 (by omega) (fun _ => sj_cell hL 2 (by omega) (fun _ => sj_cell hL 3 (by omega) (fun _ => sj_cell hL 4 (by omega) (fun _ => ⟨236, 3776, by omega, by omega, sj_law rfl⟩)))))
end
