section
/-! plain facts of single bits -/
theorem il_bs : ∀ j, j < 12 → (((1 : Int32) <<< (nI j &&& 31)) >>> (nI j &&& 31)) &&& 1 = 1 := by decide +kernel
theorem il_bn : ∀ j, j < 12 → ∀ c, c < 12 → c ≠ j → (((1 : Int32) <<< (nI j &&& 31)) >>> (nI c &&& 31)) &&& 1 = 0 := by decide +kernel
theorem il_b0 : ∀ j, j < 12 → ¬ ((1 : Int32) <<< (nI j &&& 31)) = 0 := by decide +kernel
theorem il_v0 : ∀ k, k < 20 → ¬ ((1 : Int32) <<< (nI k &&& 31)) = 0 := by decide +kernel
theorem il_vv : ∀ k, k < 20 → ((1 : Int32) <<< ((nI k &&& 31) &&& 31)) = ((1 : Int32) <<< (nI k &&& 31)) := by decide +kernel
theorem il_z (x : Int32) : ((0 : Int32) >>> x) &&& 1 = 0 := by rw [Int32.zero_shiftRight, Int32.zero_and]
theorem il_01 : ¬ (0 : Int32) = 1 := by decide
theorem il_10 : ¬ (1 : Int32) = 0 := by decide
theorem il_clr (x : Int32) : x &&& (x ^^^ (-1)) = 0 := by
  rw [Int32.xor_neg_one]
  simp
/-- what atEnd gathers over the blocks below c: t the arcs' word, l the live sets -/
def il_ae (t : Int32) (l : Nat → Int32) : Nat → Int32
  | 0 => 0
  | c + 1 => if (t >>> (nI c &&& 31)) &&& 1 = 1 then il_ae t l c ||| l c else il_ae t l c
theorem il_ae_l0 (t : Int32) (l : Nat → Int32) : ∀ c, c ≤ 12 → (∀ x, x < 12 → l x = 0) → il_ae t l c = 0 := by
  intro c hc h
  induction c with
  | zero => rfl
  | succ c ih =>
    have e := ih (by omega)
    show (if (t >>> (nI c &&& 31)) &&& 1 = 1 then il_ae t l c ||| l c else il_ae t l c) = 0
    rw [e, h c (by omega), Int32.or_zero]
    split <;> rfl
theorem il_ae_t0 (l : Nat → Int32) : ∀ c, il_ae 0 l c = 0 := by
  intro c
  induction c with
  | zero => rfl
  | succ c ih =>
    show (if ((0 : Int32) >>> (nI c &&& 31)) &&& 1 = 1 then il_ae 0 l c ||| l c else il_ae 0 l c) = 0
    rw [il_z, if_neg il_01, ih]
theorem il_ae_one {j : Nat} (hj : j < 12) (l : Nat → Int32) : ∀ c, c ≤ 12 → il_ae ((1 : Int32) <<< (nI j &&& 31)) l c = if c ≤ j then 0 else l j := by
  intro c hc
  induction c with
  | zero => rw [if_pos (Nat.zero_le j)]; rfl
  | succ c ih =>
    have e := ih (by omega)
    show (if (((1 : Int32) <<< (nI j &&& 31)) >>> (nI c &&& 31)) &&& 1 = 1 then il_ae ((1 : Int32) <<< (nI j &&& 31)) l c ||| l c else il_ae ((1 : Int32) <<< (nI j &&& 31)) l c) = _
    rw [e]
    by_cases h : c = j
    · subst h
      rw [if_pos (il_bs c hj), if_pos (Nat.le_refl c), if_neg (by omega), Int32.zero_or]
    · rw [il_bn j hj c (by omega) h, if_neg il_01]
      by_cases h2 : c ≤ j
      · rw [if_pos h2, if_pos (by omega)]
      · rw [if_neg h2, if_neg (by omega)]
theorem il_ae_12 {j : Nat} (hj : j < 12) (l : Nat → Int32) : il_ae ((1 : Int32) <<< (nI j &&& 31)) l 12 = l j := by
  rw [il_ae_one hj l 12 (by omega), if_neg (by omega)]
end
section
/-! the methods, one lemma each: first those whose answer is not asked for -/
theorem il_atEnd {post : Int32 → Prop} {a1 a2 a3 a4 a5 : Nat → Int32} {i : Nat} (hi : i < 12) (H : post (il_ae (a1 i) a5 12)) : wpX_atEnd post (a1, a2, a3, a4, a5) (nI i) :=
  pk_loop (σ := Int32) (fun n c s => wX_atEnd_4 post (nI i) a1 a2 a3 a4 a5 n s (nI c)) (fun c s => s = il_ae (a1 i) a5 c) 12 0 0 (by omega) rfl
    (fun n s h => pk_le 12 12 (fun _ => by rw [h]; exact H) (fun z => absurd z (by omega)))
    (fun n c s hc h hw => pk_le 12 c (fun z => absurd z (by omega)) (fun _ => ⟨pk_in i 12 hi, by
      rw [nI_clamp (show i < 2 ^ 31 by omega), nI_clamp (show c < 2 ^ 31 by omega)]
      exact br_c (fun e => ⟨pk_in c 12 hc, nm_e (nm_r (nI_1 c) (hw _ (by
          show _ = (if ((a1 i) >>> (nI c &&& 31)) &&& 1 = 1 then il_ae (a1 i) a5 c ||| a5 c else il_ae (a1 i) a5 c)
          rw [if_pos e, h])))⟩)
        (fun e => nm_r (nI_1 c) (hw _ (by
          show _ = (if ((a1 i) >>> (nI c &&& 31)) &&& 1 = 1 then il_ae (a1 i) a5 c ||| a5 c else il_ae (a1 i) a5 c)
          rw [if_neg e, h])))⟩))
theorem il_due {post : Int32 → Prop} {a1 a2 a3 a4 a5 : Nat → Int32} {i : Nat} (hi : i < 12) (H : post (a3 i ||| (il_ae (a1 i) a5 12 &&& (a4 i ^^^ (-1))))) : wpX_due post (a1, a2, a3, a4, a5) (nI i) := by
  unfold wpX_due
  dsimp only
  refine ⟨pk_in i 12 hi, il_atEnd hi ⟨pk_in i 12 hi, ?_⟩⟩
  rw [nI_clamp (show i < 2 ^ 31 by omega)]
  exact H
theorem il_be15 {post : Int32 → Prop} {J : Int32 → Int32 → Prop} {x3 : Int32} {a1 a2 a3 a4 a5 : Nat → Int32} (H : ∀ s, J s (x3 + 1)) (s : Int32) : ∃ n, wX_behind_15 post J x3 a1 a2 a3 a4 a5 n s 0 :=
  pk_loop (σ := Int32) (fun n c s => wX_behind_15 post J x3 a1 a2 a3 a4 a5 n s (nI c)) (fun _ _ => True) 12 0 s (by omega) trivial
    (fun n s _ => pk_le 12 12 (fun _ => nm_e (H s)) (fun z => absurd z (by omega)))
    (fun n c s hc _ hw => pk_le 12 c (fun z => absurd z (by omega)) (fun _ =>
      br_c (fun _ => ⟨pk_in c 12 hc, nm_e (nm_r (nI_1 c) (hw _ trivial))⟩) (fun _ => nm_r (nI_1 c) (hw _ trivial))))
theorem il_behind {post : Int32 → Prop} {a1 a2 a3 a4 a5 : Nat → Int32} {p : Int32} (H : ∀ s, post s) : wpX_behind post (a1, a2, a3, a4, a5) p := by
  unfold wpX_behind
  dsimp only
  refine nm_e ?_
  exact pk_loop (σ := Int32) (fun n c s => wX_behind_6 post a1 a2 a3 a4 a5 n s (nI c)) (fun _ _ => True) 12 0 _ (by omega) trivial
    (fun n s _ => pk_le 12 12 (fun _ => H s) (fun z => absurd z (by omega)))
    (fun n c s hc _ hw => pk_le 12 c (fun z => absurd z (by omega)) (fun _ =>
      il_be15 (fun t => by rw [nI_1]; exact hw t trivial) s))
theorem il_s92 {post : St2 → Prop} {J : Int32 → Int32 → (Nat → Int32) → (Nat → Int32) → (Nat → Int32) → (Nat → Int32) → (Nat → Int32) → Prop} {x3 x4 x6 : Int32} {a1 a2 a3 a4 : Nat → Int32}
    (H : ∀ x l, J x (x6 + 1) a1 a2 a3 a4 l) (x : Int32) (l : Nat → Int32) : ∃ n, wX_shrink_92 post J x3 x4 x6 n x 11 a1 a2 a3 a4 l := by
  have t := pk_loopD (σ := Int32 × (Nat → Int32)) (fun n k s => wX_shrink_92 post J x3 x4 x6 n s.1 (nI k + (-1)) a1 a2 a3 a4 s.2) (fun k _ => k ≤ 12)
    (fun n s _ => br_t (by decide) (nm_e (H s.1 s.2)))
    (fun n k s hk hw => by
      rw [pk_m1]
      refine pk_lt k 0 (fun z => absurd z (by omega)) (fun _ => br_c (fun _ => il_due (by omega) (nm_e ⟨pk_in k 12 (by omega), br_c (fun _ => nm_e (hw (s.1, s.2) (by omega))) (fun _ => ⟨pk_in k 12 (by omega), pk_in k 12 (by omega), nm_e (nm_e (hw (1, _) (by omega)))⟩)⟩)) (fun _ => nm_e (hw (s.1, s.2) (by omega)))))
    12 (x, l) (by omega)
  dsimp only at t
  rw [pk_m1] at t
  exact ⟨13, t⟩
theorem il_s72 {post : St2 → Prop} {x3 x4 : Int32} {a1 a2 a3 a4 : Nat → Int32} (H : ∀ l, post (a1, a2, a3, a4, l)) (x : Int32) (l : Nat → Int32) : ∃ n, wX_shrink_72 post x3 x4 n x 0 a1 a2 a3 a4 l :=
  pk_loop (σ := Int32 × (Nat → Int32)) (fun n c s => wX_shrink_72 post x3 x4 n s.1 (nI c) a1 a2 a3 a4 s.2) (fun _ _ => True) 241 0 (x, l) (by omega) trivial
    (fun n s _ => pk_le 241 241 (fun _ => H s.2) (fun z => absurd z (by omega)))
    (fun n c s hc _ hw => pk_le 241 c (fun z => absurd z (by omega)) (fun _ => br_c (fun _ => H s.2) (fun _ =>
      il_s92 (fun y m => by rw [nI_1]; exact hw (y, m) trivial) 0 s.2)))
theorem il_s24 {post : St2 → Prop} {x3 x4 : Int32} {a1 a2 a3 a4 : Nat → Int32} (H : ∀ l, post (a1, a2, a3, a4, l)) (l : Nat → Int32) : ∃ n, wX_shrink_24 post x3 x4 n 0 a1 a2 a3 a4 l :=
  pk_loop (σ := Nat → Int32) (fun n c s => wX_shrink_24 post x3 x4 n (nI c) a1 a2 a3 a4 s) (fun _ _ => True) 12 0 l (by omega) trivial
    (fun n s _ => pk_le 12 12 (fun _ => il_s72 H 1 s) (fun z => absurd z (by omega)))
    (fun n c s hc _ hw => pk_le 12 c (fun z => absurd z (by omega)) (fun _ =>
      br_c (fun _ => ⟨pk_in c 12 hc, pk_in c 12 hc, nm_e (nm_r (nI_1 c) (hw _ trivial))⟩) (fun _ => nm_r (nI_1 c) (hw _ trivial))))
/-- shrink ends; it changes the live sets alone -/
theorem il_shrink {post : St2 → Prop} {a1 a2 a3 a4 a5 : Nat → Int32} {i : Nat} {p : Int32} (hi : i < 12) (H : ∀ l, post (a1, a2, a3, a4, l)) : wpX_shrink post (a1, a2, a3, a4, a5) (nI i) p := by
  unfold wpX_shrink
  dsimp only
  exact ⟨pk_in i 12 hi, nm_e (br_c (fun _ => H a5) (fun _ => il_behind (fun _ => il_s24 H a5)))⟩
/-- shrink with nothing lost changes nothing -/
theorem il_shrink0 {post : St2 → Prop} {a1 a2 a3 a4 a5 : Nat → Int32} {i : Nat} {p : Int32} (hi : i < 12) (h0 : p &&& a5 i = 0) (H : post (a1, a2, a3, a4, a5)) : wpX_shrink post (a1, a2, a3, a4, a5) (nI i) p := by
  unfold wpX_shrink
  dsimp only
  exact ⟨pk_in i 12 hi, nm_e (br_t (by rw [nI_clamp (show i < 2 ^ 31 by omega)]; exact h0) H)⟩
theorem il_part0 {post : St2 → Prop} {a1 a2 a3 a4 a5 : Nat → Int32} {i : Nat} {p : Int32} (hi : i < 12) (hb : ((a1 i) >>> (p &&& 31)) &&& 1 = 0) (H : post (a1, a2, a3, a4, a5)) : wpX_part post (a1, a2, a3, a4, a5) (nI i) p := by
  unfold wpX_part
  dsimp only
  rw [nI_clamp (show i < 2 ^ 31 by omega), hb]
  exact ⟨pk_in i 12 hi, br_f il_01 H⟩
theorem il_part1 {post : St2 → Prop} {a1 a2 a3 a4 a5 : Nat → Int32} {i j : Nat} (hi : i < 12) (hj : j < 12) (hb : ((a1 i) >>> (nI j &&& 31)) &&& 1 = 1)
    (H : ∀ f l, post (upd a1 i (a1 i &&& (((1 : Int32) <<< (nI j &&& 31)) ^^^ (-1))), f, a3, a4, l)) : wpX_part post (a1, a2, a3, a4, a5) (nI i) (nI j) := by
  unfold wpX_part
  dsimp only
  rw [nI_clamp (show i < 2 ^ 31 by omega)]
  exact ⟨pk_in i 12 hi, br_t hb ⟨pk_in i 12 hi, pk_in i 12 hi, nm_e ⟨pk_in j 12 hj, pk_in j 12 hj, nm_e (il_shrink hi (fun l => H _ l))⟩⟩⟩
end
section
/-! spread: a round over one block that is due; reaching with no set; cutOff -/
theorem il_sp23 {post : St2 → Prop} {J : Int32 → Int32 → (Nat → Int32) → (Nat → Int32) → (Nat → Int32) → (Nat → Int32) → (Nat → Int32) → Prop} {x3 : Int32} {a1 a2 a3 a4 a5 l' : Nat → Int32} {j : Nat} {d y : Int32} (hj : j < 12)
    (hd : a3 j ||| (il_ae (a1 j) a5 12 &&& (a4 j ^^^ (-1))) = d)
    (hc : (d &&& (a5 j ^^^ (-1)) = 0 ∧ y = 0 ∧ l' = a5) ∨ (¬ d &&& (a5 j ^^^ (-1)) = 0 ∧ y = 0 ||| a2 j ∧ l' = upd a5 j (a5 j ||| d)))
    (H : J y (x3 + 1) a1 a2 a3 a4 l') : ∃ n, wX_spread_23 post J ((1 : Int32) <<< (nI j &&& 31)) x3 n 0 0 a1 a2 a3 a4 a5 :=
  pk_loop (σ := Int32 × (Nat → Int32)) (fun n c s => wX_spread_23 post J ((1 : Int32) <<< (nI j &&& 31)) x3 n s.1 (nI c) a1 a2 a3 a4 s.2)
    (fun c s => (c ≤ j ∧ s = (0, a5)) ∨ (j < c ∧ s = (y, l'))) 12 0 (0, a5) (by omega) (Or.inl ⟨by omega, rfl⟩)
    (fun n s h => pk_le 12 12 (fun _ => by
      rcases h with ⟨h, _⟩ | ⟨_, h⟩
      · exact absurd h (by omega)
      · rw [h]
        exact nm_e H) (fun z => absurd z (by omega)))
    (fun n c s hcc h hw => pk_le 12 c (fun z => absurd z (by omega)) (fun _ => by
      rcases h with ⟨h, hs⟩ | ⟨h, hs⟩
      · by_cases e : c = j
        · subst e
          refine br_t (il_bs c hj) ?_
          rw [hs]
          refine il_due hj ?_
          dsimp only
          rw [hd, nI_clamp (show c < 2 ^ 31 by omega)]
          refine ⟨pk_in c 12 hj, ?_⟩
          rcases hc with ⟨h0, hy, hl⟩ | ⟨h0, hy, hl⟩
          · exact br_t h0 (nm_r (nI_1 c) (hw (0, a5) (Or.inr ⟨by omega, by rw [hy, hl]⟩)))
          · exact br_f h0 ⟨pk_in c 12 hj, pk_in c 12 hj, nm_e ⟨pk_in c 12 hj, nm_e (nm_r (nI_1 c) (hw (0 ||| a2 c, upd a5 c (a5 c ||| d)) (Or.inr ⟨by omega, by rw [hy, hl]⟩)))⟩⟩
        · exact br_f (by rw [il_bn j hj c hcc e]; exact il_01) (nm_r (nI_1 c) (hw (s.1, s.2) (Or.inl ⟨by omega, hs⟩)))
      · exact br_f (by rw [il_bn j hj c hcc (by omega)]; exact il_01) (nm_r (nI_1 c) (hw (s.1, s.2) (Or.inr ⟨by omega, hs⟩)))))
theorem il_sp6 {post : St2 → Prop} {a1 a2 a3 a4 a5 l' : Nat → Int32} {j r : Nat} {d y : Int32} (hj : j < 12) (hr : r < 241)
    (hd : a3 j ||| (il_ae (a1 j) a5 12 &&& (a4 j ^^^ (-1))) = d)
    (hc : (d &&& (a5 j ^^^ (-1)) = 0 ∧ y = 0 ∧ l' = a5) ∨ (¬ d &&& (a5 j ^^^ (-1)) = 0 ∧ y = 0 ||| a2 j ∧ l' = upd a5 j (a5 j ||| d)))
    (H : ∃ n, wX_spread_6 post n y (nI (r + 1)) a1 a2 a3 a4 l') : ∃ n, wX_spread_6 post n ((1 : Int32) <<< (nI j &&& 31)) (nI r) a1 a2 a3 a4 a5 := by
  obtain ⟨n, H⟩ := H
  refine ⟨n + 1, ?_⟩
  exact pk_le 241 r (fun z => absurd z (by omega)) (fun _ => br_f (il_b0 j hj) (il_sp23 hj hd hc (by rw [nI_1]; exact H)))
theorem il_sp6z {post : St2 → Prop} {a1 a2 a3 a4 a5 : Nat → Int32} {r : Nat} (hr : r < 241) (H : post (a1, a2, a3, a4, a5)) : ∃ n, wX_spread_6 post n 0 (nI r) a1 a2 a3 a4 a5 :=
  ⟨1, pk_le 241 r (fun z => absurd z (by omega)) (fun _ => br_t rfl H)⟩
theorem il_re124 {post : Int32 → Prop} {k : Nat} {x3 : Int32} {a1 a2 a3 a4 a5 : Nat → Int32} (h4 : ∀ x, x < 12 → a4 x = 0) (H : post 0) : ∃ n, wX_reaching_124 post (nI k) x3 a1 a2 a3 a4 a5 n 0 0 :=
  pk_loop (σ := Unit) (fun n c _ => wX_reaching_124 post (nI k) x3 a1 a2 a3 a4 a5 n 0 (nI c)) (fun _ _ => True) 12 0 () (by omega) trivial
    (fun n _ _ => pk_le 12 12 (fun _ => H) (fun z => absurd z (by omega)))
    (fun n c _ hc _ hw => pk_le 12 c (fun z => absurd z (by omega)) (fun _ =>
      br_c (fun _ => ⟨pk_in c 12 hc, br_f (by rw [nI_clamp (show c < 2 ^ 31 by omega), h4 c hc, il_z]; exact il_01) (nm_r (nI_1 c) (hw () trivial))⟩) (fun _ => nm_r (nI_1 c) (hw () trivial))))
theorem il_re54 {post : Int32 → Prop} {J : Int32 → Int32 → Int32 → Prop} {k : Nat} {x3 x4 x5 : Int32} {a1 a2 a3 a4 a5 : Nat → Int32} (H : ∀ x y, J x y (x5 + 1)) : ∃ n, wX_reaching_54 post J (nI k) x3 x4 x5 a1 a2 a3 a4 a5 n 0 0 :=
  pk_loop (σ := Int32) (fun n c s => wX_reaching_54 post J (nI k) x3 x4 x5 a1 a2 a3 a4 a5 n s (nI c)) (fun _ _ => True) 12 0 0 (by omega) trivial
    (fun n s _ => pk_le 12 12 (fun _ => nm_e (nm_e (H _ _))) (fun z => absurd z (by omega)))
    (fun n c s hc _ hw => pk_le 12 c (fun z => absurd z (by omega)) (fun _ =>
      br_c (fun _ => ⟨pk_in c 12 hc, br_c (fun _ => ⟨pk_in c 12 hc, nm_e (nm_r (nI_1 c) (hw _ trivial))⟩) (fun _ => nm_r (nI_1 c) (hw _ trivial))⟩) (fun _ => nm_r (nI_1 c) (hw _ trivial))))
theorem il_re31 {post : Int32 → Prop} {k : Nat} {a1 a2 a3 a4 a5 : Nat → Int32} (h4 : ∀ x, x < 12 → a4 x = 0) (H : post 0) (x y : Int32) : ∃ n, wX_reaching_31 post (nI k) a1 a2 a3 a4 a5 n x y 0 :=
  pk_loop (σ := Int32 × Int32) (fun n c s => wX_reaching_31 post (nI k) a1 a2 a3 a4 a5 n s.1 s.2 (nI c)) (fun _ _ => True) 13 0 (x, y) (by omega) trivial
    (fun n s _ => pk_lt 12 13 (fun _ => il_re124 h4 H) (fun z => absurd z (by omega)))
    (fun n c s hc _ hw => pk_lt 12 c (fun z => absurd z (by omega)) (fun _ =>
      br_c (fun _ => il_re124 h4 H) (fun _ => nm_e (il_re54 (fun x y => by rw [nI_1]; exact hw (x, y) trivial)))))
/-- the arcs as cutOff meets them: none from other blocks; from block i the one to j (then m is 1, and j is still ahead), or none (then the count is m) -/
def il_K (i j c : Nat) (m n : Int32) (a : Nat → Int32) : Prop := (∀ x, x < 12 → x ≠ i → a x = 0) ∧ ((c ≤ j ∧ n = 0 ∧ m = 1 ∧ a i = (1 : Int32) <<< (nI j &&& 31)) ∨ (n = m ∧ a i = 0))
theorem il_cut {post : Int32 → St2 → Prop} {i j : Nat} {m : Int32} {a1 a2 a3 a4 a5 : Nat → Int32} (hi : i < 12) (hj : j < 12) (hK : il_K i j 0 m 0 a1) (H : ∀ t f l, post m (t, f, a3, a4, l)) :
    ∃ n, wX_cutOff_14 post (nI i) n 0 0 a1 a2 a3 a4 a5 :=
  pk_loop (σ := Int32 × (Nat → Int32) × (Nat → Int32) × (Nat → Int32)) (fun n c s => wX_cutOff_14 post (nI i) n s.1 (nI c) s.2.1 s.2.2.1 a3 a4 s.2.2.2)
    (fun c s => il_K i j c m s.1 s.2.1) 12 0 (0, a1, a2, a5) (by omega) hK
    (fun n s h => pk_le 12 12 (fun _ => by
      rcases h.2 with h | h
      · exact absurd h.1 (by omega)
      · rw [h.1]
        exact H _ _ _) (fun z => absurd z (by omega)))
    (fun n c s hc h hw => pk_le 12 c (fun z => absurd z (by omega)) (fun _ => by
      obtain ⟨x, t, f, l⟩ := s
      have hci : c < 2 ^ 31 := by omega
      have hii : i < 2 ^ 31 := by omega
      dsimp only at h ⊢
      rw [nI_clamp hii]
      refine ⟨pk_in i 12 hi, ?_⟩
      obtain ⟨h1, h2⟩ := h
      by_cases e : c = j ∧ m = 1 ∧ x = 0 ∧ t i = (1 : Int32) <<< (nI j &&& 31)
      · obtain ⟨e, em, ex, et⟩ := e
        subst e
        have b1 : (t i >>> (nI c &&& 31)) &&& 1 = 1 := by rw [et]; exact il_bs c hj
        refine nm_e (il_part1 hi hj b1 (fun f' l' => ?_))
        dsimp only
        rw [b1, et, il_clr, nI_clamp hci]
        have z : ∀ y, y < 12 → upd t i 0 y = 0 := by
          intro y hy
          by_cases g : y = i
          · rw [g, pk_us]
          · rw [pk_un g, h1 y hy g]
        refine ⟨pk_in c 12 hc, nm_e (il_part0 hc (by rw [z c hc, il_z]) ?_)⟩
        refine nm_r (nI_1 c) (hw (_, upd t i 0, f', l') ⟨fun y hy _ => z y hy, Or.inr ⟨?_, z i hi⟩⟩)
        show x + 1 + ((upd t i 0 c >>> (nI i &&& 31)) &&& 1) = m
        rw [z c hc, il_z, ex, em]
        rfl
      · have b1 : (t i >>> (nI c &&& 31)) &&& 1 = 0 := by
          rcases h2 with ⟨g1, g2, g3, g4⟩ | ⟨g1, g2⟩
          · rw [g4]
            exact il_bn j hj c hc (fun ec => e ⟨ec, g3, g2, g4⟩)
          · rw [g2, il_z]
        have b2 : (t c >>> (nI i &&& 31)) &&& 1 = 0 := by
          by_cases g : c = i
          · rw [g] at b1 ⊢
            exact b1
          · rw [h1 c hc g, il_z]
        refine nm_e (il_part0 hi b1 ?_)
        dsimp only
        rw [b1, nI_clamp hci]
        refine ⟨pk_in c 12 hc, nm_e (il_part0 hc b2 ?_)⟩
        rw [b2]
        refine nm_r (nI_1 c) (hw (_, t, f, l) ⟨h1, ?_⟩)
        show (c + 1 ≤ j ∧ x + 0 + 0 = 0 ∧ m = 1 ∧ t i = (1 : Int32) <<< (nI j &&& 31)) ∨ (x + 0 + 0 = m ∧ t i = 0)
        rw [Int32.add_zero, Int32.add_zero]
        rcases h2 with ⟨g1, g2, g3, g4⟩ | g
        · exact Or.inl ⟨by
            have : c ≠ j := fun ec => e ⟨ec, g3, g2, g4⟩
            omega, g2, g3, g4⟩
        · exact Or.inr g))
end
section
/-! the methods that the law calls, over the states that the law brings about -/
theorem il_nlt {p : Int32} {n : Nat} (h : p < 0 ∨ nI n ≤ p) (h0 : ¬ p < 0) : ¬ p < nI n := by
  rcases h with h | h
  · exact absurd h h0
  · exact Int32.not_lt.mpr h
theorem il_bad_o {post : Int32 → Prop} {a1 a2 a3 a4 a5 : Nat → Int32} {p : Int32} (h : p < 0 ∨ nI 12 ≤ p) (H : post 1) : wpX_bad post (a1, a2, a3, a4, a5) p :=
  br_c (fun _ => H) (fun h0 => br_f (il_nlt h h0) H)
theorem il_bad_i {post : Int32 → Prop} {a1 a2 a3 a4 a5 : Nat → Int32} {i : Nat} (hi : i < 12) (H : post 0) : wpX_bad post (a1, a2, a3, a4, a5) (nI i) :=
  pk_lt i 0 (fun z => absurd z (by omega)) (fun _ => pk_lt i 12 (fun _ => H) (fun z => absurd z (by omega)))
theorem il_bv_o {post : Int32 → Prop} {a1 a2 a3 a4 a5 : Nat → Int32} {p : Int32} (h : p < 0 ∨ nI 20 ≤ p) (H : post 1) : wpX_badVariable post (a1, a2, a3, a4, a5) p :=
  br_c (fun _ => H) (fun h0 => br_f (il_nlt h h0) H)
theorem il_bv_i {post : Int32 → Prop} {a1 a2 a3 a4 a5 : Nat → Int32} {i : Nat} (hi : i < 20) (H : post 0) : wpX_badVariable post (a1, a2, a3, a4, a5) (nI i) :=
  pk_lt i 0 (fun z => absurd z (by omega)) (fun _ => pk_lt i 20 (fun _ => H) (fun z => absurd z (by omega)))
/-! spread -/
theorem il_sprz {post : St2 → Prop} {a1 a2 a3 a4 a5 : Nat → Int32} {j : Nat} (hj : j < 12) (h3 : a3 j = 0) (h5 : ∀ x, x < 12 → a5 x = 0) (H : post (a1, a2, a3, a4, a5)) : wpX_spread post (a1, a2, a3, a4, a5) (nI j) := by
  unfold wpX_spread
  dsimp only
  refine nm_e (il_sp6 (r := 0) (d := 0) (y := 0) (l' := a5) hj (by omega) ?_ (Or.inl ⟨Int32.zero_and, rfl, rfl⟩) (il_sp6z (by omega) H))
  rw [h3, il_ae_l0 _ _ 12 (by omega) h5, Int32.zero_and, Int32.zero_or]
theorem il_spr0 {post : St2 → Prop} {a1 a2 a3 a4 a5 : Nat → Int32} {j : Nat} {M : Int32} (hj : j < 12) (h2 : a2 j = 0) (h3 : a3 j = M) (hM : ¬ M = 0) (h5 : ∀ x, x < 12 → a5 x = 0) (H : ∀ l, post (a1, a2, a3, a4, l)) : wpX_spread post (a1, a2, a3, a4, a5) (nI j) := by
  unfold wpX_spread
  dsimp only
  refine nm_e (il_sp6 (r := 0) (d := M) (y := 0) (l' := upd a5 j (a5 j ||| M)) hj (by omega) ?_ (Or.inr ⟨?_, ?_, rfl⟩) (il_sp6z (by omega) (H _)))
  · rw [h3, il_ae_l0 _ _ 12 (by omega) h5, Int32.zero_and, Int32.or_zero]
  · rw [h5 j hj, Int32.zero_xor, Int32.and_neg_one]
    exact hM
  · rw [h2, Int32.zero_or]
theorem il_spr1 {post : St2 → Prop} {a1 a2 a3 a4 a5 : Nat → Int32} {i j : Nat} {M : Int32} (hi : i < 12) (hj : j < 12) (h1 : a1 i = (1 : Int32) <<< (nI j &&& 31)) (h2 : a2 j = (1 : Int32) <<< (nI i &&& 31)) (h2' : i ≠ j → a2 i = 0)
    (h3 : a3 j = M) (h3' : i ≠ j → a3 i = 0) (h4 : a4 i = 0) (hM : ¬ M = 0) (h5 : ∀ x, x < 12 → a5 x = 0) (H : ∀ l, l i = M → l j = M → post (a1, a2, a3, a4, l)) : wpX_spread post (a1, a2, a3, a4, a5) (nI j) := by
  unfold wpX_spread
  dsimp only
  refine nm_e (il_sp6 (r := 0) (d := M) (y := (1 : Int32) <<< (nI i &&& 31)) (l' := upd a5 j M) hj (by omega) ?_ (Or.inr ⟨?_, ?_, ?_⟩) ?_)
  · rw [h3, il_ae_l0 _ _ 12 (by omega) h5, Int32.zero_and, Int32.or_zero]
  · rw [h5 j hj, Int32.zero_xor, Int32.and_neg_one]
    exact hM
  · rw [h2, Int32.zero_or]
  · rw [h5 j hj, Int32.zero_or]
  · have hl : il_ae (a1 i) (upd a5 j M) 12 = M := by rw [h1, il_ae_12 hj, pk_us]
    by_cases e : i = j
    · refine il_sp6 (r := 1) (d := M) (y := 0) (l' := upd a5 j M) hi (by omega) ?_ (Or.inl ⟨?_, rfl, rfl⟩) (il_sp6z (by omega) (H _ (by rw [e, pk_us]) pk_us))
      · rw [hl, h4, Int32.zero_xor, Int32.and_neg_one, e, h3, Int32.or_self]
      · rw [e, pk_us, il_clr]
    · refine il_sp6 (r := 1) (d := M) (y := 0) (l' := upd (upd a5 j M) i M) hi (by omega) ?_ (Or.inr ⟨?_, ?_, ?_⟩) (il_sp6z (by omega) (H _ pk_us (by rw [pk_un (fun g => e g.symm), pk_us])))
      · rw [hl, h4, Int32.zero_xor, Int32.and_neg_one, h3' e, Int32.zero_or]
      · rw [pk_un e, h5 i hi, Int32.zero_xor, Int32.and_neg_one]
        exact hM
      · rw [h2' e, Int32.zero_or]
      · rw [pk_un e, h5 i hi, Int32.zero_or]
/-! arc -/
theorem il_arc_a {post : Int32 → St2 → Prop} {a1 a2 a3 a4 a5 : Nat → Int32} {p0 p1 p2 : Int32} (h : p0 < 0 ∨ nI 12 ≤ p0) (H : post (-1) (a1, a2, a3, a4, a5)) : wpX_arc post (a1, a2, a3, a4, a5) p0 p1 p2 := by
  unfold wpX_arc
  dsimp only
  exact il_bad_o h (br_f il_10 H)
theorem il_arc_b {post : Int32 → St2 → Prop} {a1 a2 a3 a4 a5 : Nat → Int32} {i : Nat} {p1 p2 : Int32} (hi : i < 12) (h : p1 < 0 ∨ nI 12 ≤ p1) (H : post (-1) (a1, a2, a3, a4, a5)) : wpX_arc post (a1, a2, a3, a4, a5) (nI i) p1 p2 := by
  unfold wpX_arc
  dsimp only
  exact il_bad_i hi (br_t rfl (il_bad_o h (br_f il_10 H)))
theorem il_arc_i {post : Int32 → St2 → Prop} {a1 a2 a3 a4 a5 : Nat → Int32} {i j : Nat} (hi : i < 12) (hj : j < 12) (h1 : a1 i = 0) (h2 : a2 j = 0) (h3 : a3 i = 0) (h5 : ∀ x, x < 12 → a5 x = 0)
    (H : post 0 (upd a1 i ((1 : Int32) <<< (nI j &&& 31)), upd a2 j ((1 : Int32) <<< (nI i &&& 31)), a3, a4, a5)) : wpX_arc post (a1, a2, a3, a4, a5) (nI i) (nI j) 1 := by
  unfold wpX_arc
  dsimp only
  refine il_bad_i hi (br_t rfl (il_bad_i hj (br_t rfl ⟨pk_in i 12 hi, ?_⟩)))
  rw [nI_clamp (show i < 2 ^ 31 by omega), h1, il_z]
  refine nm_e (br_f il_10 ?_)
  unfold wpX_join
  dsimp only
  rw [nI_clamp (show i < 2 ^ 31 by omega), nI_clamp (show j < 2 ^ 31 by omega), h1, h2, il_z, Int32.zero_or, Int32.zero_or]
  exact ⟨pk_in i 12 hi, br_t rfl ⟨pk_in i 12 hi, pk_in i 12 hi, nm_e ⟨pk_in j 12 hj, pk_in j 12 hj, nm_e (il_sprz hi h3 h5 H)⟩⟩⟩
/-! use -/
theorem il_use_a {post : Int32 → St2 → Prop} {a1 a2 a3 a4 a5 : Nat → Int32} {p0 p1 p2 : Int32} (h : p0 < 0 ∨ nI 12 ≤ p0) (H : post (-1) (a1, a2, a3, a4, a5)) : wpX_use post (a1, a2, a3, a4, a5) p0 p1 p2 := by
  unfold wpX_use
  dsimp only
  exact il_bad_o h (br_f il_10 H)
theorem il_use_b {post : Int32 → St2 → Prop} {a1 a2 a3 a4 a5 : Nat → Int32} {j : Nat} {p1 p2 : Int32} (hj : j < 12) (h : p1 < 0 ∨ nI 20 ≤ p1) (H : post (-1) (a1, a2, a3, a4, a5)) : wpX_use post (a1, a2, a3, a4, a5) (nI j) p1 p2 := by
  unfold wpX_use
  dsimp only
  exact il_bad_i hj (br_t rfl (il_bv_o h (br_f il_10 H)))
theorem il_use_i {post : Int32 → St2 → Prop} {a1 a2 a3 a4 a5 : Nat → Int32} {j k : Nat} (hj : j < 12) (hk : k < 20) (h3 : a3 j = 0) (h4 : a4 j = 0)
    (H : ∀ ps : St2 → Prop, (∀ t f u s l, post 0 (t, f, u, s, l) → ps (t, f, u, s, l)) → wpX_spread ps (a1, a2, upd a3 j ((1 : Int32) <<< (nI k &&& 31)), upd a4 j 0, a5) (nI j)) : wpX_use post (a1, a2, a3, a4, a5) (nI j) (nI k) 1 := by
  unfold wpX_use
  dsimp only
  refine il_bad_i hj (br_t rfl (il_bv_i hk (br_t rfl ⟨pk_in j 12 hj, ?_⟩)))
  rw [nI_clamp (show j < 2 ^ 31 by omega), h3, il_z, Int32.zero_and]
  refine nm_e ⟨pk_in j 12 hj, nm_e (br_f il_10 ?_)⟩
  rw [Int32.zero_or]
  unfold wX_use_61
  refine ⟨pk_in j 12 hj, ?_⟩
  unfold wpX_change
  dsimp only
  rw [nI_clamp (show j < 2 ^ 31 by omega), h3, h4, Int32.zero_and, Int32.zero_and, Int32.zero_or]
  exact ⟨pk_in j 12 hj, pk_in j 12 hj, nm_e ⟨pk_in j 12 hj, nm_e ⟨pk_in j 12 hj, nm_e (il_shrink0 hj Int32.zero_and (H _ (fun _ _ _ _ _ h => h)))⟩⟩⟩
/-! the questions -/
theorem il_in_a {post : Int32 → Prop} {a1 a2 a3 a4 a5 : Nat → Int32} {p : Int32} (h : p < 0 ∨ nI 12 ≤ p) (H : post (-1)) : wpX_liveIn post (a1, a2, a3, a4, a5) p := by
  unfold wpX_liveIn
  dsimp only
  exact il_bad_o h (br_f il_10 H)
theorem il_in_i {post : Int32 → Prop} {a1 a2 a3 a4 a5 : Nat → Int32} {i : Nat} (hi : i < 12) (H : post (a5 i)) : wpX_liveIn post (a1, a2, a3, a4, a5) (nI i) := by
  unfold wpX_liveIn
  dsimp only
  refine il_bad_i hi (br_t rfl ⟨pk_in i 12 hi, ?_⟩)
  rw [nI_clamp (show i < 2 ^ 31 by omega)]
  exact H
theorem il_out_a {post : Int32 → Prop} {a1 a2 a3 a4 a5 : Nat → Int32} {p : Int32} (h : p < 0 ∨ nI 12 ≤ p) (H : post (-1)) : wpX_liveOut post (a1, a2, a3, a4, a5) p := by
  unfold wpX_liveOut
  dsimp only
  exact il_bad_o h (br_f il_10 H)
theorem il_out_i {post : Int32 → Prop} {a1 a2 a3 a4 a5 : Nat → Int32} {i : Nat} (hi : i < 12) (H : post (il_ae (a1 i) a5 12)) : wpX_liveOut post (a1, a2, a3, a4, a5) (nI i) := by
  unfold wpX_liveOut
  dsimp only
  exact il_bad_i hi (br_t rfl (il_atEnd hi H))
theorem il_rea_a {post : Int32 → Prop} {a1 a2 a3 a4 a5 : Nat → Int32} {p0 p1 : Int32} (h : p0 < 0 ∨ nI 12 ≤ p0) (H : post (-1)) : wpX_reaching post (a1, a2, a3, a4, a5) p0 p1 := by
  unfold wpX_reaching
  dsimp only
  exact il_bad_o h (br_f il_10 H)
theorem il_rea_b {post : Int32 → Prop} {a1 a2 a3 a4 a5 : Nat → Int32} {j : Nat} {p1 : Int32} (hj : j < 12) (h : p1 < 0 ∨ nI 20 ≤ p1) (H : post (-1)) : wpX_reaching post (a1, a2, a3, a4, a5) (nI j) p1 := by
  unfold wpX_reaching
  dsimp only
  exact il_bad_i hj (br_t rfl (il_bv_o h (br_f il_10 H)))
theorem il_rea_i {post : Int32 → Prop} {a1 a2 a3 a4 a5 : Nat → Int32} {j k : Nat} (hj : j < 12) (hk : k < 20) (h4 : ∀ x, x < 12 → a4 x = 0) (H : post 0) : wpX_reaching post (a1, a2, a3, a4, a5) (nI j) (nI k) := by
  unfold wpX_reaching
  dsimp only
  exact il_bad_i hj (br_t rfl (il_bv_i hk (br_t rfl ⟨pk_in j 12 hj, nm_e (il_re31 h4 H 0 _)⟩)))
theorem il_cut_a {post : Int32 → St2 → Prop} {a1 a2 a3 a4 a5 : Nat → Int32} {p : Int32} (h : p < 0 ∨ nI 12 ≤ p) (H : post (-1) (a1, a2, a3, a4, a5)) : wpX_cutOff post (a1, a2, a3, a4, a5) p := by
  unfold wpX_cutOff
  dsimp only
  exact il_bad_o h (br_f il_10 H)
theorem il_cut_i {post : Int32 → St2 → Prop} {a1 a2 a3 a4 a5 : Nat → Int32} {i j : Nat} {m : Int32} (hi : i < 12) (hj : j < 12) (hK : il_K i j 0 m 0 a1) (H : ∀ t f l, post m (t, f, a3, a4, l)) : wpX_cutOff post (a1, a2, a3, a4, a5) (nI i) := by
  unfold wpX_cutOff
  dsimp only
  exact il_bad_i hi (br_t rfl (il_cut hi hj hK H))
end
section
/-! the law's last comparison, from its last step backwards -/
theorem il_e229 {post : Int32 → St0 → Prop} {mc ms : Nat} {x9 x10 x13 z0 z1 : Int32} {kc ks : Nat} (h : z1 = z0) (h9 : x9 = if x10 = 0 then -1 else if x13 = 0 then 0 else 1) (hp : post 1 ()) : wL_lawOf_229 post mc ms x9 x10 x13 z0 z1 kc ks :=
  br_t h (br_c (fun e => br_t (by rw [h9, if_pos e]) hp) (fun e => br_c (fun e' => br_t (by rw [h9, if_neg e, if_pos e']) hp) (fun e' => br_t (by rw [h9, if_neg e, if_neg e']) hp)))
theorem il_e209 {post : Int32 → St0 → Prop} {mc ms : Nat} {x8 x9 x10 x11 x12 x13 z0 z1 : Int32} {kc ks : Nat} (h : z1 = z0) (h8 : x8 = if x11 = 0 then -1 else if x12 = 0 then -1 else 0) (h9 : x9 = if x10 = 0 then -1 else if x13 = 0 then 0 else 1) (hp : post 1 ()) :
    wL_lawOf_209 post mc ms x8 x9 x10 x11 x12 x13 z0 z1 kc ks :=
  br_t h (br_c (fun e => il_e229 (by rw [h8, if_pos e]) h9 hp) (fun e => br_c (fun e' => il_e229 (by rw [h8, if_neg e, if_pos e']) h9 hp) (fun e' => il_e229 (by rw [h8, if_neg e, if_neg e']) h9 hp)))
theorem il_e193 {post : Int32 → St0 → Prop} {mc ms : Nat} {x7 x8 x9 x10 x11 x12 x13 x14 z0 z1 : Int32} {kc ks : Nat} (h : z1 = z0) (h7 : x7 = if x10 = 0 then -1 else x14) (h8 : x8 = if x11 = 0 then -1 else if x12 = 0 then -1 else 0) (h9 : x9 = if x10 = 0 then -1 else if x13 = 0 then 0 else 1) (hp : post 1 ()) :
    wL_lawOf_193 post mc ms x7 x8 x9 x10 x11 x12 x13 x14 z0 z1 kc ks :=
  br_t h (br_c (fun e => il_e209 (by rw [h7, if_pos e]) h8 h9 hp) (fun e => il_e209 (by rw [h7, if_neg e]) h8 h9 hp))
theorem il_e177 {post : Int32 → St0 → Prop} {mc ms : Nat} {x6 x7 x8 x9 x10 x11 x12 x13 x14 z0 z1 : Int32} {kc ks : Nat} (h : z1 = z0) (h6 : x6 = if x10 = 0 then -1 else x14) (h7 : x7 = if x10 = 0 then -1 else x14) (h8 : x8 = if x11 = 0 then -1 else if x12 = 0 then -1 else 0) (h9 : x9 = if x10 = 0 then -1 else if x13 = 0 then 0 else 1) (hp : post 1 ()) :
    wL_lawOf_177 post mc ms x6 x7 x8 x9 x10 x11 x12 x13 x14 z0 z1 kc ks :=
  br_t h (br_c (fun e => il_e193 (by rw [h6, if_pos e]) h7 h8 h9 hp) (fun e => il_e193 (by rw [h6, if_neg e]) h7 h8 h9 hp))
theorem il_e157 {post : Int32 → St0 → Prop} {mc ms : Nat} {x5 x6 x7 x8 x9 x10 x11 x12 x13 x14 z0 z1 : Int32} {kc ks : Nat} (h : z1 = z0) (h5 : x5 = if x11 = 0 then -1 else if x12 = 0 then -1 else 0) (h6 : x6 = if x10 = 0 then -1 else x14) (h7 : x7 = if x10 = 0 then -1 else x14) (h8 : x8 = if x11 = 0 then -1 else if x12 = 0 then -1 else 0) (h9 : x9 = if x10 = 0 then -1 else if x13 = 0 then 0 else 1) (hp : post 1 ()) :
    wL_lawOf_157 post mc ms x5 x6 x7 x8 x9 x10 x11 x12 x13 x14 z0 z1 kc ks :=
  br_t h (br_c (fun e => il_e177 (by rw [h5, if_pos e]) h6 h7 h8 h9 hp) (fun e => br_c (fun e' => il_e177 (by rw [h5, if_neg e, if_pos e']) h6 h7 h8 h9 hp) (fun e' => il_e177 (by rw [h5, if_neg e, if_neg e']) h6 h7 h8 h9 hp)))
theorem il_e143 {post : Int32 → St0 → Prop} {mc ms : Nat} {x4 x5 x6 x7 x8 x9 x10 x11 x12 x13 z0 : Int32} {kc ks : Nat} (h4 : x4 = if x13 = 0 then -1 else 0) (h5 : x5 = if x11 = 0 then -1 else if x12 = 0 then -1 else 0) (h6 : x6 = if x10 = 0 then -1 else z0) (h7 : x7 = if x10 = 0 then -1 else z0) (h8 : x8 = if x11 = 0 then -1 else if x12 = 0 then -1 else 0) (h9 : x9 = if x10 = 0 then -1 else if x13 = 0 then 0 else 1) (hp : post 1 ()) :
    wL_lawOf_143 post mc ms x4 x5 x6 x7 x8 x9 x10 x11 x12 x13 z0 kc ks :=
  br_c (fun e => il_e157 (by rw [h4, if_pos e]) h5 h6 h7 h8 h9 hp) (fun e => il_e157 (by rw [h4, if_neg e]) h5 h6 h7 h8 h9 hp)
theorem il_f104n {post : Int32 → St0 → Prop} {mc ms : Nat} {x2 x4 x5 x6 x7 x8 x9 x10 x11 x12 : Int32} {kc ks : Nat} (h : x10 = 0 ∨ x11 = 0) (H : wL_lawOf_143 post mc ms x4 x5 x6 x7 x8 x9 x10 x11 x12 0 0 kc ks) : wL_lawOf_104 post mc ms x2 x4 x5 x6 x7 x8 x9 x10 x11 x12 kc ks :=
  br_c (fun _ => br_t rfl H) (fun e => br_c (fun _ => br_t rfl H) (fun e' => absurd h (fun z => z.elim e e')))
theorem il_f104v {post : Int32 → St0 → Prop} {mc ms : Nat} {x2 x4 x5 x6 x7 x8 x9 : Int32} {kc ks : Nat} (H : wL_lawOf_143 post mc ms x4 x5 x6 x7 x8 x9 1 1 0 1 0 kc ks) : wL_lawOf_104 post mc ms x2 x4 x5 x6 x7 x8 x9 1 1 0 kc ks :=
  br_f il_10 (br_f il_10 (br_f il_10 (br_t rfl H)))
theorem il_f104y {post : Int32 → St0 → Prop} {mc ms : Nat} {x2 x4 x5 x6 x7 x8 x9 : Int32} {kc ks : Nat} (H : wL_lawOf_143 post mc ms x4 x5 x6 x7 x8 x9 1 1 1 1 ((1 : Int32) <<< ((x2 &&& 31) &&& 31)) kc ks) : wL_lawOf_104 post mc ms x2 x4 x5 x6 x7 x8 x9 1 1 1 kc ks :=
  br_f il_10 (br_f il_10 (br_f il_10 (br_f il_10 H)))
/-! the ranges: the law's 'n < p' against the method's 'p < n + 1' -/
theorem il_gt {p a : Int32} {n : Nat} (h : p < 0 ∨ nI n ≤ p) (h0 : ¬ p < 0) (ha : a < nI n) : a < p := by
  rcases h with h | h
  · exact absurd h h0
  · exact Int32.lt_of_lt_of_le ha h
theorem il_r_o {A B : Prop} {p a : Int32} {n : Nat} (h : p < 0 ∨ nI n ≤ p) (ha : a < nI n) (H : A) : (p < 0 → A) ∧ (¬ p < 0 → ((a < p → A) ∧ (¬ a < p → B))) :=
  br_c (fun _ => H) (fun h0 => br_t (il_gt h h0 ha) H)
theorem il_r_i {A B : Prop} {i m : Nat} {a : Int32} (hi : i ≤ m) (hm : m < 100) (ha : a = nI m) (H : B) : (nI i < 0 → A) ∧ (¬ nI i < 0 → ((a < nI i → A) ∧ (¬ a < nI i → B))) :=
  br_f (nI_pos (by omega)) (br_f (by rw [ha]; exact nI_nlt hi (by omega)) H)
theorem il_f87o {post : Int32 → St0 → Prop} {mc ms : Nat} {x2 x4 x5 x6 x7 x8 x9 x10 x11 : Int32} {kc ks : Nat} (h : x2 < 0 ∨ nI 20 ≤ x2) (H : wL_lawOf_104 post mc ms x2 x4 x5 x6 x7 x8 x9 x10 x11 0 kc ks) : wL_lawOf_87 post mc ms x2 x4 x5 x6 x7 x8 x9 x10 x11 kc ks :=
  il_r_o h (by decide) H
theorem il_f87i {post : Int32 → St0 → Prop} {mc ms : Nat} {k : Nat} {x4 x5 x6 x7 x8 x9 x10 x11 : Int32} {kc ks : Nat} (h : k < 20) (H : wL_lawOf_104 post mc ms (nI k) x4 x5 x6 x7 x8 x9 x10 x11 1 kc ks) : wL_lawOf_87 post mc ms (nI k) x4 x5 x6 x7 x8 x9 x10 x11 kc ks :=
  il_r_i (m := 19) (by omega) (by omega) rfl H
theorem il_f70o {post : Int32 → St0 → Prop} {mc ms : Nat} {x1 x2 x4 x5 x6 x7 x8 x9 x10 : Int32} {kc ks : Nat} (h : x1 < 0 ∨ nI 12 ≤ x1) (H : wL_lawOf_87 post mc ms x2 x4 x5 x6 x7 x8 x9 x10 0 kc ks) : wL_lawOf_70 post mc ms x1 x2 x4 x5 x6 x7 x8 x9 x10 kc ks :=
  il_r_o h (by decide) H
theorem il_f70i {post : Int32 → St0 → Prop} {mc ms : Nat} {j : Nat} {x2 x4 x5 x6 x7 x8 x9 x10 : Int32} {kc ks : Nat} (h : j < 12) (H : wL_lawOf_87 post mc ms x2 x4 x5 x6 x7 x8 x9 x10 1 kc ks) : wL_lawOf_70 post mc ms (nI j) x2 x4 x5 x6 x7 x8 x9 x10 kc ks :=
  il_r_i (m := 11) (by omega) (by omega) rfl H
theorem il_rng (x : Int32) {n : Nat} (hn : n < 2 ^ 31) : (x < 0 ∨ nI n ≤ x) ∨ ∃ j : Nat, j < n ∧ x = nI j := by
  rcases pk_ix x hn with h | h | h
  · exact Or.inl (Or.inl h)
  · exact Or.inl (Or.inr h)
  · exact Or.inr h
end
section
/-! the law -/
/-- any continuation of the law's six calls: what they answer, by the ranges of a, b, v -/
theorem il_lawOf {post : Int32 → St0 → Prop} (hp : post 1 ()) (p0 p1 p2 : Int32) : wpL_lawOf post 44 704 () p0 p1 p2 := by
  unfold wpL_lawOf
  refine ⟨by decide, by decide, 43, 699, by decide, by decide, ?_⟩
  unfold wpX_init
  refine ⟨by decide, by decide, by decide, by decide, by decide, by decide, by decide, by decide, by decide, by decide, ?_⟩
  dsimp only
  rcases il_rng p0 (n := 12) (by decide) with h0 | ⟨i, hi, rfl⟩
  · refine il_arc_a h0 ?_
    dsimp only
    rcases il_rng p1 (n := 12) (by decide) with h1 | ⟨j, hj, rfl⟩
    · refine il_use_a h1 (il_in_a h0 (il_out_a h0 (il_rea_a h1 (il_cut_a h0 (il_r_o h0 (by decide) (il_f70o h1 ?_))))))
      rcases il_rng p2 (n := 20) (by decide) with h2 | ⟨k, hk, rfl⟩
      · exact il_f87o h2 (il_f104n (Or.inl rfl) (il_e143 rfl rfl rfl rfl rfl rfl hp))
      · exact il_f87i hk (il_f104n (Or.inl rfl) (il_e143 rfl rfl rfl rfl rfl rfl hp))
    · rcases il_rng p2 (n := 20) (by decide) with h2 | ⟨k, hk, rfl⟩
      · refine il_use_b hj h2 (il_in_a h0 (il_out_a h0 (il_rea_b hj h2 (il_cut_a h0 (il_r_o h0 (by decide) (il_f70i hj (il_f87o h2 ?_)))))))
        exact il_f104n (Or.inl rfl) (il_e143 rfl rfl rfl rfl rfl rfl hp)
      · refine il_use_i hj hk rfl rfl (fun ps hps => il_spr0 hj rfl pk_us (il_v0 k hk) (fun _ _ => rfl) (fun l => hps _ _ _ _ _ ?_))
        dsimp only
        refine il_in_a h0 (il_out_a h0 (il_rea_i hj hk (fun x hx => ?_) (il_cut_a h0 (il_r_o h0 (by decide) (il_f70i hj (il_f87i hk ?_))))))
        · by_cases e : x = j
          · rw [e, pk_us]
          · rw [pk_un e]
        · exact il_f104n (Or.inl rfl) (il_e143 rfl rfl rfl rfl rfl rfl hp)
  · rcases il_rng p1 (n := 12) (by decide) with h1 | ⟨j, hj, rfl⟩
    · refine il_arc_b hi h1 ?_
      dsimp only
      refine il_use_a h1 (il_in_i hi (il_out_i hi (il_rea_a h1 (il_cut_i (j := 0) (m := 0) hi (by omega) ⟨fun _ _ _ => rfl, Or.inr ⟨rfl, rfl⟩⟩ (fun t f l => il_r_i (m := 11) (by omega) (by omega) rfl (il_f70o h1 ?_))))))
      rw [il_ae_l0 _ _ 12 (by omega) (fun _ _ => rfl)]
      rcases il_rng p2 (n := 20) (by decide) with h2 | ⟨k, hk, rfl⟩
      · exact il_f87o h2 (il_f104n (Or.inr rfl) (il_e143 rfl rfl rfl rfl rfl rfl hp))
      · exact il_f87i hk (il_f104n (Or.inr rfl) (il_e143 rfl rfl rfl rfl rfl rfl hp))
    · refine il_arc_i hi hj rfl rfl rfl (fun _ _ => rfl) ?_
      dsimp only
      have hK : il_K i j 0 1 0 (upd (fun _ => 0) i ((1 : Int32) <<< (nI j &&& 31))) :=
        ⟨fun x _ hx => pk_un hx, Or.inl ⟨by omega, rfl, rfl, pk_us⟩⟩
      rcases il_rng p2 (n := 20) (by decide) with h2 | ⟨k, hk, rfl⟩
      · refine il_use_b hj h2 (il_in_i hi (il_out_i hi (il_rea_b hj h2 (il_cut_i hi hj hK (fun t f l => il_r_i (m := 11) (by omega) (by omega) rfl (il_f70i hj (il_f87o h2 (il_f104v ?_))))))))
        rw [il_ae_l0 _ _ 12 (by omega) (fun _ _ => rfl)]
        exact il_e143 rfl rfl rfl rfl rfl rfl hp
      · refine il_use_i hj hk rfl rfl (fun ps hps => il_spr1 (M := (1 : Int32) <<< (nI k &&& 31)) hi hj pk_us pk_us (fun e => pk_un e) pk_us (fun e => pk_un e) ?_ (il_v0 k hk) (fun _ _ => rfl) (fun l hli hlj => hps _ _ _ _ _ ?_))
        · by_cases e : i = j
          · rw [e, pk_us]
          · rw [pk_un e]
        · dsimp only
          refine il_in_i hi (il_out_i hi (il_rea_i hj hk (fun x hx => ?_) (il_cut_i hi hj hK (fun t f l' => il_r_i (m := 11) (by omega) (by omega) rfl (il_f70i hj (il_f87i hk (il_f104y ?_)))))))
          · by_cases e : x = j
            · rw [e, pk_us]
            · rw [pk_un e]
          · rw [pk_us, il_ae_12 hj, hli, hlj, il_vv k hk]
            exact il_e143 rfl rfl rfl rfl rfl rfl hp
theorem il_cell {post : Int32 → Prop} {L : Nat} {xs : Nat → Int32} (hL : L ≤ 3) (i : Nat) (hi : i < 3) (H : ∀ x, post x) : wpL_cellAt post L xs () (nI i) :=
  pk_le L i (fun _ => H _) (fun z => ⟨pk_in i L z, H _⟩)
theorem i_vc (xs : Nat → Int32) (L : Nat) (hL : L ≤ 3) : wpL_law (fun r => r = 1) L xs := by
  unfold wpL_law
  exact il_cell hL 0 (by omega) (fun a => il_cell hL 1 (by omega) (fun b => il_cell hL 2 (by omega) (fun v => ⟨44, 704, by decide, by decide, il_lawOf rfl a b v⟩)))
end
