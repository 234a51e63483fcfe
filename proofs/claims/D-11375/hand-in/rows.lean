section
/-- the picture of way: nothing from a point to itself, m between the points 2 and 5, FAR else -/
def sn_W (m a b : Nat) : Nat := if a = b then 0 else if (a = 2 ∧ b = 5) ∨ (a = 5 ∧ b = 2) then m else 100000
theorem sn_Wle {m a b : Nat} (hm : m ≤ 100000) : sn_W m a b ≤ 100000 := by
  unfold sn_W
  (repeat' split) <;> omega
theorem sn_tri {m a b c : Nat} (hm : m ≤ 100000) : sn_W m a c ≤ sn_W m a b + sn_W m b c := by
  unfold sn_W
  (repeat' split) <;> omega
def sn_way (m : Nat) (w : Nat → Int32) : Prop := ∀ a b, a < 7 → b < 7 → w (7 * a + b) = nI (sn_W m a b)
theorem sn_ix (a b : Nat) : (7 : Int32) * nI a + nI b = nI (7 * a + b) := by
  rw [show (7 : Int32) = nI 7 from rfl, pk_mul, nI_add]
theorem sn_cl {a b : Nat} (ha : a < 64) (hb : b < 7) : ((7 : Int32) * nI a + nI b).toNatClampNeg = 7 * a + b := by
  rw [sn_ix, nI_clamp (by omega)]
theorem sn_at {w : Nat → Int32} {m a b : Nat} (h : sn_way m w) (ha : a < 7) (hb : b < 7) : w ((7 : Int32) * nI a + nI b).toNatClampNeg = nI (sn_W m a b) := by
  rw [sn_cl (by omega) hb]
  exact h a b ha hb
theorem sn_fill {f s : Nat → Int32} {i k : Nat} {x : Int32} (hk : k = i) (h : ∀ j, j < i → s j = f j) (hx : x = f i) : ∀ j, j < i + 1 → upd s k x j = f j := by
  intro j hj
  rw [hk]
  by_cases e : j = i
  · rw [e, pk_us, hx]
  · rw [pk_un e]
    exact h j (by omega)
theorem sn_put {m m' a b : Nat} {w : Nat → Int32} (h : sn_way m w) (hab : (a = 2 ∧ b = 5) ∨ (a = 5 ∧ b = 2)) : sn_way m' (upd (upd w (7 * a + b) (nI m')) (7 * b + a) (nI m')) := by
  intro x y hx hy
  by_cases e1 : 7 * x + y = 7 * b + a
  · rw [e1, pk_us]
    have e : sn_W m' x y = m' := by
      unfold sn_W
      rw [if_neg (by omega), if_pos (by omega)]
    rw [e]
  · rw [pk_un e1]
    by_cases e2 : 7 * x + y = 7 * a + b
    · rw [e2, pk_us]
      have e : sn_W m' x y = m' := by
        unfold sn_W
        rw [if_neg (by omega), if_pos (by omega)]
      rw [e]
    · rw [pk_un e2, h x y hx hy]
      have e : sn_W m x y = sn_W m' x y := by
        unfold sn_W
        rw [if_neg (c := (x = 2 ∧ y = 5) ∨ (x = 5 ∧ y = 2)) (by omega), if_neg (c := (x = 2 ∧ y = 5) ∨ (x = 5 ∧ y = 2)) (by omega)]
      rw [e]
/-- the two lines: 1 from 5 to 2 at q, 9 from 2 to 5 at p -/
def sn_eA (k : Nat) : Nat := if k = 1 then 5 else if k = 9 then 2 else 0
def sn_eB (k : Nat) : Nat := if k = 1 then 2 else if k = 9 then 5 else 0
def sn_pr (p q k : Nat) : Nat := if k = 1 then q else if k = 9 then p else 0
/-- what the lines count with: line 9 with x, line 1 with y -/
def sn_c (x y k : Nat) : Nat := if k = 1 then y else if k = 9 then x else 100000
def sn_E (a1 a2 : Nat → Int32) : Prop := (∀ k, k < 10 → a1 k = nI (sn_eA k)) ∧ (∀ k, k < 10 → a2 k = nI (sn_eB k))
def sn_C (x y : Nat) (a4 : Nat → Int32) : Prop := x ≤ 100000 ∧ y ≤ 100000 ∧ ∀ k, k < 10 → a4 k = nI (sn_c x y k)
theorem sn_C9 {x y v : Nat} {a : Nat → Int32} (h : sn_C x y a) (hv : v ≤ 100000) : sn_C v y (upd a 9 (nI v)) := by
  obtain ⟨h1, h2, h3⟩ := h
  refine ⟨hv, h2, fun k hk => ?_⟩
  by_cases e : k = 9
  · rw [e, pk_us]
    rfl
  · rw [pk_un e, h3 k hk]
    unfold sn_c
    rw [if_neg e, if_neg e]
theorem sn_C1 {x y v : Nat} {a : Nat → Int32} (h : sn_C x y a) (hv : v ≤ 100000) : sn_C x v (upd a 1 (nI v)) := by
  obtain ⟨h1, h2, h3⟩ := h
  refine ⟨h1, hv, fun k hk => ?_⟩
  by_cases e : k = 1
  · rw [e, pk_us]
    rfl
  · rw [pk_un e, h3 k hk]
    unfold sn_c
    rw [if_neg e, if_neg e]
theorem sn_cle {x y i : Nat} (hx : x ≤ 100000) (hy : y ≤ 100000) : sn_c x y i ≤ 100000 := by
  unfold sn_c
  (repeat' split) <;> omega
/-- what stands between 2 and 5 when the lines below i are laid -/
def sn_mi (x y i : Nat) : Nat := if i ≤ 1 then 100000 else if i ≤ 9 then y else min x y
theorem sn_mile {x y i : Nat} (hx : x ≤ 100000) (hy : y ≤ 100000) : sn_mi x y i ≤ 100000 := by
  unfold sn_mi
  (repeat' split) <;> omega
theorem sn_eAl (i : Nat) : sn_eA i < 7 := by
  unfold sn_eA
  (repeat' split) <;> omega
theorem sn_eBl (i : Nat) : sn_eB i < 7 := by
  unfold sn_eB
  (repeat' split) <;> omega
theorem sn_miA {x y i : Nat} (hx : x ≤ 100000) (hy : y ≤ 100000) (hi : i < 10) (z : sn_W (sn_mi x y i) (sn_eA i) (sn_eB i) ≤ sn_c x y i) : sn_mi x y (i + 1) = sn_mi x y i := by
  by_cases h1 : i = 1
  · subst h1
    have z' : 100000 ≤ y := z
    show y = 100000
    omega
  · by_cases h9 : i = 9
    · subst h9
      have z' : y ≤ x := z
      show min x y = y
      omega
    · unfold sn_mi
      (repeat' split) <;> omega
theorem sn_miB {x y i : Nat} (hi : i < 10) (z : sn_c x y i < sn_W (sn_mi x y i) (sn_eA i) (sn_eB i)) : ((sn_eA i = 2 ∧ sn_eB i = 5) ∨ (sn_eA i = 5 ∧ sn_eB i = 2)) ∧ sn_mi x y (i + 1) = sn_c x y i := by
  by_cases h1 : i = 1
  · subst h1
    exact ⟨Or.inr ⟨rfl, rfl⟩, rfl⟩
  · by_cases h9 : i = 9
    · subst h9
      have z' : x < y := z
      refine ⟨Or.inl ⟨rfl, rfl⟩, ?_⟩
      show min x y = x
      omega
    · have eA : sn_eA i = 0 := by
        unfold sn_eA
        rw [if_neg h1, if_neg h9]
      have eB : sn_eB i = 0 := by
        unfold sn_eB
        rw [if_neg h1, if_neg h9]
      rw [eA, eB] at z
      have z' : sn_c x y i < 0 := z
      omega
/-- the part that holds the first wanted point, when the points below i are done -/
def sn_D (m i q : Nat) : Nat := if q = 2 then 0 else if q = 5 ∧ 5 < i then m else 100000
def sn_L (D : Nat → Nat) (m p : Nat) : Nat → Nat
  | 0 => D p
  | j + 1 => min (sn_L D m p j) (D j + sn_W m j p)
theorem sn_Lle {D : Nat → Nat} {m p : Nat} (j : Nat) : sn_L D m p j ≤ D p := by
  induction j with
  | zero => exact Nat.le_refl _
  | succ j ih =>
    show min (sn_L D m p j) (D j + sn_W m j p) ≤ D p
    omega
theorem sn_Dle {m i q : Nat} (hm : m ≤ 100000) : sn_D m i q ≤ 100000 := by
  unfold sn_D
  (repeat' split) <;> omega
theorem sn_Lv {m i : Nat} (hm : m ≤ 100000) (j : Nat) : sn_L (sn_D m i) m i j = if i = 5 ∧ 2 < j then m else sn_D m i i := by
  induction j with
  | zero =>
    rw [if_neg (by omega)]
    rfl
  | succ j ih =>
    show min (sn_L (sn_D m i) m i j) (sn_D m i j + sn_W m j i) = _
    rw [ih]
    unfold sn_D sn_W
    (repeat' split) <;> omega
def sn_part (D : Nat → Nat) (s : Nat → Int32) : Prop := ∀ q, q < 7 → s (7 * 1 + q) = nI (D q)
theorem sn_pstep {m i : Nat} {s : Nat → Int32} (hm : m ≤ 100000) (h : sn_part (sn_D m i) s) : sn_part (sn_D m (i + 1)) (upd s (7 * 1 + i) (nI (sn_L (sn_D m i) m i 7))) := by
  intro q hq
  by_cases e : q = i
  · rw [e, pk_us, sn_Lv hm]
    have e' : (if i = 5 ∧ 2 < 7 then m else sn_D m i i) = sn_D m (i + 1) i := by
      unfold sn_D
      (repeat' split) <;> omega
    rw [e']
  · rw [pk_un (by omega), h q hq]
    have e' : sn_D m i q = sn_D m (i + 1) q := by
      unfold sn_D
      (repeat' split) <;> omega
    rw [e']
theorem sn_pv {post : Int32 → St2 → Prop} {r r' : Int32} {u : St2} (e : r = r') (h : post r' u) : post r u := by
  rw [e]
  exact h
end
section
section
variable {post : St2 → Prop} {f1 f2 f3 f4 f5 : Int32} {a1 a2 a3 a4 a5 a6 a7 : Nat → Int32}
/-- countAll -/
theorem sn_count (H : ∀ b : Nat → Int32, (∀ k, k < 10 → b k = if a3 k = 0 then 100000 else a3 k) → post (f1, f2, f3, f4, f5, a1, a2, a3, b, a5, a6, a7)) : wpX_countAll post (f1, f2, f3, f4, f5, a1, a2, a3, a4, a5, a6, a7) :=
  pk_loop (fun n i s => wX_countAll_2 post f1 f2 f3 f4 f5 n (nI i) a1 a2 a3 s a5 a6 a7) (fun i s => ∀ k, k < i → s k = if a3 k = 0 then 100000 else a3 k) 10 0 a4 (by omega) (fun k hk => absurd hk (by omega))
    (fun n s h => pk_le 10 10 (fun _ => H s h) (fun z => absurd z (by omega)))
    (fun n i s hi h hn => pk_le 10 i (fun z => absurd z (by omega)) (fun _ => ⟨pk_in i 10 hi, br_c
      (fun z => ⟨pk_in i 10 hi, nm_e (nm_r (nI_1 i) (hn _ (sn_fill (f := fun k => if a3 k = 0 then 100000 else a3 k) (nI_clamp (by omega)) h (by
        rw [nI_clamp (by omega)] at z
        show (100000 : Int32) = if a3 i = 0 then 100000 else a3 i
        rw [if_pos z]))))⟩)
      (fun z => ⟨pk_in i 10 hi, pk_in i 10 hi, nm_e (nm_r (nI_1 i) (hn _ (sn_fill (f := fun k => if a3 k = 0 then 100000 else a3 k) (nI_clamp (by omega)) h (by
        rw [nI_clamp (by omega)] at z ⊢
        show a3 i = if a3 i = 0 then 100000 else a3 i
        rw [if_neg z]))))⟩)⟩))
/-- shortenOver changes nothing -/
theorem sn_so10 {J2 : Int32 → (Nat → Int32) → (Nat → Int32) → (Nat → Int32) → (Nat → Int32) → (Nat → Int32) → (Nat → Int32) → (Nat → Int32) → Prop} {m mid a : Nat} (hm : m ≤ 100000) (hw : sn_way m a5) (hmid : mid < 7) (ha : a < 7)
    (H : J2 (nI (a + 1)) a1 a2 a3 a4 a5 a6 a7) : ∃ n, wX_shortenOver_10 post J2 (nI mid) (nI a) f1 f2 f3 f4 f5 n 0 a1 a2 a3 a4 a5 a6 a7 :=
  pk_loop (σ := Unit) (fun n i _ => wX_shortenOver_10 post J2 (nI mid) (nI a) f1 f2 f3 f4 f5 n (nI i) a1 a2 a3 a4 a5 a6 a7) (fun _ _ => True) 7 0 () (by omega) trivial
    (fun n _ _ => pk_le 7 7 (fun _ => nm_r (nI_1 a) H) (fun z => absurd z (by omega)))
    (fun n i _ hi _ hn => pk_le 7 i (fun z => absurd z (by omega)) (fun _ => ⟨pk_in (7 * a + mid) 49 (by omega) (sn_ix a mid), pk_in (7 * mid + i) 49 (by omega) (sn_ix mid i),
      nm_r (e' := nI (sn_W m a mid + sn_W m mid i)) (by rw [sn_at hw ha hmid, sn_at hw hmid hi, nI_add])
        ⟨pk_in (7 * a + i) 49 (by omega) (sn_ix a i), br_t (by
          rw [sn_at hw ha hi]
          have b1 := sn_Wle (a := a) (b := mid) hm
          have b2 := sn_Wle (a := mid) (b := i) hm
          exact nI_le (sn_tri hm) (by omega)) (nm_r (nI_1 i) (hn () trivial))⟩⟩))
theorem sn_so {m mid : Nat} (hm : m ≤ 100000) (hw : sn_way m a5) (hmid : mid < 7) (H : post (f1, f2, f3, f4, f5, a1, a2, a3, a4, a5, a6, a7)) : wpX_shortenOver post (f1, f2, f3, f4, f5, a1, a2, a3, a4, a5, a6, a7) (nI mid) :=
  pk_loop (σ := Unit) (fun n i _ => wX_shortenOver_2 post (nI mid) f1 f2 f3 f4 f5 n (nI i) a1 a2 a3 a4 a5 a6 a7) (fun _ _ => True) 7 0 () (by omega) trivial
    (fun n _ _ => pk_le 7 7 (fun _ => H) (fun z => absurd z (by omega)))
    (fun n i _ hi _ hn => pk_le 7 i (fun z => absurd z (by omega)) (fun _ => sn_so10 hm hw hmid hi (hn () trivial)))
theorem sn_fw134 {m : Nat} (hm : m ≤ 100000) (hw : sn_way m a5) (H : post (f1, f2, f3, f4, f5, a1, a2, a3, a4, a5, a6, a7)) : ∃ n, wX_findWays_134 post n 0 f1 f2 f3 f4 f5 a1 a2 a3 a4 a5 a6 a7 :=
  pk_loop (σ := Unit) (fun n i _ => wX_findWays_134 post n (nI i) f1 f2 f3 f4 f5 a1 a2 a3 a4 a5 a6 a7) (fun _ _ => True) 7 0 () (by omega) trivial
    (fun n _ _ => pk_le 7 7 (fun _ => H) (fun z => absurd z (by omega)))
    (fun n i _ hi _ hn => pk_le 7 i (fun z => absurd z (by omega)) (fun _ => sn_so hm hw hi (nm_r (nI_1 i) (hn () trivial))))
/-- the lines are laid -/
theorem sn_fw52 {x y : Nat} (he : sn_E a1 a2) (hc : sn_C x y a4) (hw : sn_way 100000 a5)
    (H : ∀ s, sn_way (min x y) s → ∃ n, wX_findWays_134 post n 0 f1 f2 f3 f4 f5 a1 a2 a3 a4 s a6 a7) : ∃ n, wX_findWays_52 post f1 f2 f3 f4 f5 n 0 a1 a2 a3 a4 a5 a6 a7 := by
  obtain ⟨hA, hB⟩ := he
  obtain ⟨hx, hy, hC⟩ := hc
  refine pk_loop (fun n i s => wX_findWays_52 post f1 f2 f3 f4 f5 n (nI i) a1 a2 a3 a4 s a6 a7) (fun i s => sn_way (sn_mi x y i) s) 10 0 a5 (by omega) hw ?_ ?_
  · exact fun n s h => pk_le 10 10 (fun _ => H s h) (fun z => absurd z (by omega))
  · intro n i s hi h hn
    show wX_findWays_52 post f1 f2 f3 f4 f5 (n + 1) (nI i) a1 a2 a3 a4 s a6 a7
    have lA := sn_eAl i
    have lB := sn_eBl i
    have lc := sn_cle (i := i) hx hy
    have lW := sn_Wle (a := sn_eA i) (b := sn_eB i) (sn_mile (i := i) hx hy)
    have e1 : s ((7 : Int32) * nI (sn_eA i) + nI (sn_eB i)).toNatClampNeg = nI (sn_W (sn_mi x y i) (sn_eA i) (sn_eB i)) := sn_at h lA lB
    have e2 : a4 (nI i).toNatClampNeg = nI (sn_c x y i) := by
      rw [nI_clamp (by omega)]
      exact hC i hi
    refine pk_le 10 i (fun z => absurd z (by omega)) (fun _ => ⟨pk_in i 10 hi, nm_r (e' := nI (sn_eA i)) (by rw [nI_clamp (by omega)]; exact hA i hi) ⟨pk_in i 10 hi, nm_r (e' := nI (sn_eB i)) (by rw [nI_clamp (by omega)]; exact hB i hi) ⟨pk_in i 10 hi, pk_in (7 * sn_eA i + sn_eB i) 49 (by omega) (sn_ix _ _), ?_⟩⟩⟩)
    refine pk_le (sn_W (sn_mi x y i) (sn_eA i) (sn_eB i)) (sn_c x y i) (fun z => nm_r (nI_1 i) (hn s ?_)) (fun z => ⟨pk_in i 10 hi, pk_in (7 * sn_eA i + sn_eB i) 49 (by omega) (sn_ix _ _), nm_e ⟨pk_in i 10 hi, pk_in (7 * sn_eB i + sn_eA i) 49 (by omega) (sn_ix _ _), nm_e (nm_r (nI_1 i) (hn _ ?_))⟩⟩) e1 e2 (by omega) (by omega)
    · show sn_way (sn_mi x y (i + 1)) s
      rw [sn_miA hx hy hi z]
      exact h
    · obtain ⟨z1, z2⟩ := sn_miB hi z
      show sn_way (sn_mi x y (i + 1)) _
      rw [e2, sn_cl (by omega) lB, sn_cl (by omega) lA, z2]
      exact sn_put h z1
/-- way is laid bare -/
theorem sn_fw10 {J2 : Int32 → (Nat → Int32) → (Nat → Int32) → (Nat → Int32) → (Nat → Int32) → (Nat → Int32) → (Nat → Int32) → (Nat → Int32) → Prop} {a : Nat} (ha : a < 7) (h : ∀ j, j < 7 * a → a5 j = nI (sn_W 100000 (j / 7) (j % 7)))
    (H : ∀ s : Nat → Int32, (∀ j, j < 7 * (a + 1) → s j = nI (sn_W 100000 (j / 7) (j % 7))) → J2 (nI (a + 1)) a1 a2 a3 a4 s a6 a7) : ∃ n, wX_findWays_10 post J2 (nI a) f1 f2 f3 f4 f5 n 0 a1 a2 a3 a4 a5 a6 a7 :=
  pk_loop (fun n i s => wX_findWays_10 post J2 (nI a) f1 f2 f3 f4 f5 n (nI i) a1 a2 a3 a4 s a6 a7) (fun i s => ∀ j, j < 7 * a + i → s j = nI (sn_W 100000 (j / 7) (j % 7))) 7 0 a5 (by omega) h
    (fun n s h => pk_le 7 7 (fun _ => nm_r (nI_1 a) (H s (fun j hj => h j (by omega)))) (fun z => absurd z (by omega)))
    (fun n i s hi h hn => pk_le 7 i (fun z => absurd z (by omega)) (fun _ => pk_eq a i
      (fun z => ⟨pk_in (7 * a + i) 49 (by omega) (sn_ix a i), nm_e (nm_r (nI_1 i) (hn _ (sn_fill (f := fun j => nI (sn_W 100000 (j / 7) (j % 7))) (sn_cl (by omega) hi) h (by
        show (0 : Int32) = nI (sn_W 100000 ((7 * a + i) / 7) ((7 * a + i) % 7))
        rw [show (7 * a + i) / 7 = a by omega, show (7 * a + i) % 7 = i by omega]
        unfold sn_W
        rw [if_pos z]
        rfl))))⟩)
      (fun z => ⟨pk_in (7 * a + i) 49 (by omega) (sn_ix a i), nm_e (nm_r (nI_1 i) (hn _ (sn_fill (f := fun j => nI (sn_W 100000 (j / 7) (j % 7))) (sn_cl (by omega) hi) h (by
        show (100000 : Int32) = nI (sn_W 100000 ((7 * a + i) / 7) ((7 * a + i) % 7))
        rw [show (7 * a + i) / 7 = a by omega, show (7 * a + i) % 7 = i by omega]
        unfold sn_W
        rw [if_neg z, ite_self]
        rfl))))⟩)))
theorem sn_fw {x y : Nat} (he : sn_E a1 a2) (hc : sn_C x y a4) (H : ∀ s, sn_way (min x y) s → post (f1, f2, f3, f4, f5, a1, a2, a3, a4, s, a6, a7)) : wpX_findWays post (f1, f2, f3, f4, f5, a1, a2, a3, a4, a5, a6, a7) :=
  pk_loop (fun n i s => wX_findWays_2 post f1 f2 f3 f4 f5 n (nI i) a1 a2 a3 a4 s a6 a7) (fun i s => ∀ j, j < 7 * i → s j = nI (sn_W 100000 (j / 7) (j % 7))) 7 0 a5 (by omega) (fun j hj => absurd hj (by omega))
    (fun n s h => pk_le 7 7 (fun _ => sn_fw52 he hc (fun a b ha hb => by
        rw [h (7 * a + b) (by omega), show (7 * a + b) / 7 = a by omega, show (7 * a + b) % 7 = b by omega])
        (fun t ht => sn_fw134 (by have h1 := hc.1; omega) ht (H t ht))) (fun z => absurd z (by omega)))
    (fun n i s hi h hn => pk_le 7 i (fun z => absurd z (by omega)) (fun _ => sn_fw10 hi h (fun t ht => hn t ht)))
end
end
section
section
variable {post : St2 → Prop} {f1 f2 f3 f4 f5 : Int32} {a1 a2 a3 a4 a5 a6 a7 : Nat → Int32}
/-- startPart(1), two points wanted, the first of them 2 -/
theorem sn_sp29 {m : Nat} (h7 : a7 0 = nI 2) (h : ∀ q, q < 7 → a6 (7 * 1 + q) = nI 100000) (H : ∀ s, sn_part (sn_D m 0) s → post (f1, nI 2, f3, f4, f5, a1, a2, a3, a4, a5, s, a7)) : ∃ n, wX_startPart_29 post (nI 1) f1 (nI 2) f3 f4 f5 n 0 a1 a2 a3 a4 a5 a6 a7 := by
  have e7 : (7 : Int32) * nI 1 + a7 (0 : Int32).toNatClampNeg = nI (7 * 1 + 2) := by
    rw [sb_cl0, h7, sn_ix]
  refine ⟨2, pk_le 1 0 (fun z => absurd z (by omega)) (fun _ => br_t (by decide) ⟨pk_in 0 7 (by omega), pk_in (7 * 1 + 2) 448 (by omega) e7, nm_e (nm_r (e' := nI 1) (by decide) (pk_le 1 1 (fun _ => H _ (fun q hq => ?_)) (fun z => absurd z (by omega)) (by decide) rfl))⟩) (by decide) rfl⟩
  rw [e7, nI_clamp (by omega)]
  by_cases e : q = 2
  · rw [e, pk_us]
    rfl
  · rw [pk_un (by omega), h q hq]
    unfold sn_D
    rw [if_neg e, if_neg (by omega)]
theorem sn_sp {m : Nat} (h7 : a7 0 = nI 2) (H : ∀ s, sn_part (sn_D m 0) s → post (f1, nI 2, f3, f4, f5, a1, a2, a3, a4, a5, s, a7)) : wpX_startPart post (f1, nI 2, f3, f4, f5, a1, a2, a3, a4, a5, a6, a7) (nI 1) :=
  pk_loop (fun n i s => wX_startPart_2 post (nI 1) f1 (nI 2) f3 f4 f5 n (nI i) a1 a2 a3 a4 a5 s a7) (fun i s => ∀ q, q < i → s (7 * 1 + q) = nI 100000) 7 0 a6 (by omega) (fun q hq => absurd hq (by omega))
    (fun n s h => pk_le 7 7 (fun _ => sn_sp29 h7 h H) (fun z => absurd z (by omega)))
    (fun n i s hi h hn => pk_le 7 i (fun z => absurd z (by omega)) (fun _ => ⟨pk_in (7 * 1 + i) 448 (by omega) (sn_ix 1 i), nm_e (nm_r (nI_1 i) (hn _ (by
      intro q hq
      rw [sn_cl (by omega) hi]
      by_cases e : q = i
      · rw [e, pk_us]
        rfl
      · rw [pk_un (by omega)]
        exact h q (by omega))))⟩))
/-- joinParts(1) -/
theorem sn_jp (H : post (f1, f2, f3, f4, f5, a1, a2, a3, a4, a5, a6, a7)) : wpX_joinParts post (f1, f2, f3, f4, f5, a1, a2, a3, a4, a5, a6, a7) (nI 1) :=
  ⟨1, pk_le 1 1 (fun _ => H) (fun z => absurd z (by omega))⟩
/-- carryTo(1, p) -/
theorem sn_ct {m p : Nat} {D : Nat → Nat} (hm : m ≤ 100000) (hD : ∀ q, D q ≤ 100000) (hw : sn_way m a5) (hp : p < 7) (hs : sn_part D a6) (H : post (f1, f2, f3, f4, f5, a1, a2, a3, a4, a5, upd a6 (7 * 1 + p) (nI (sn_L D m p 7)), a7)) : wpX_carryTo post (f1, f2, f3, f4, f5, a1, a2, a3, a4, a5, a6, a7) (nI 1) (nI p) := by
  have hL : ∀ j, sn_L D m p j ≤ 100000 := fun j => Nat.le_trans (sn_Lle j) (hD p)
  refine ⟨pk_in (7 * 1 + p) 448 (by omega) (sn_ix 1 p), nm_r (e' := nI (sn_L D m p 0)) (by rw [sn_cl (by omega) hp]; exact hs p hp) ?_⟩
  refine pk_loop (σ := Unit) (fun n i _ => wX_carryTo_15 post (nI 1) (nI p) f1 f2 f3 f4 f5 a1 a2 a3 a4 a5 a6 a7 n (nI (sn_L D m p i)) (nI i)) (fun _ _ => True) 7 0 () (by omega) trivial ?_ ?_
  · exact fun n _ _ => pk_le 7 7 (fun _ => ⟨pk_in (7 * 1 + p) 448 (by omega) (sn_ix 1 p), nm_r (by rw [sn_cl (by omega) hp]) H⟩) (fun z => absurd z (by omega))
  · intro n i _ hi _ hn
    have t : wX_carryTo_15 post (nI 1) (nI p) f1 f2 f3 f4 f5 a1 a2 a3 a4 a5 a6 a7 n (nI (sn_L D m p (i + 1))) (nI (i + 1)) := hn () trivial
    have hLi := hL i
    have hDi := hD i
    have hWi := sn_Wle (a := i) (b := p) hm
    show wX_carryTo_15 post (nI 1) (nI p) f1 f2 f3 f4 f5 a1 a2 a3 a4 a5 a6 a7 (n + 1) (nI (sn_L D m p i)) (nI i)
    refine pk_le 7 i (fun z => absurd z (by omega)) (fun _ => ⟨pk_in (7 * 1 + i) 448 (by omega) (sn_ix 1 i), pk_in (7 * i + p) 49 (by omega) (sn_ix i p), nm_r (e' := nI (D i + sn_W m i p)) (by rw [sn_cl (a := 1) (by omega) hi, hs i hi, sn_at hw hi hp, nI_add]) ?_⟩)
    refine pk_le (sn_L D m p i) (D i + sn_W m i p) (fun z => nm_r (nI_1 i) ?_) (fun z => nm_r (nI_1 i) ?_)
    · rw [show sn_L D m p (i + 1) = sn_L D m p i from Nat.min_eq_left z] at t
      exact t
    · rw [show sn_L D m p (i + 1) = D i + sn_W m i p from Nat.min_eq_right (Nat.le_of_lt z)] at t
      exact t
/-- carryPart(1) -/
theorem sn_cp {m : Nat} (hm : m ≤ 100000) (hw : sn_way m a5) (hs : sn_part (sn_D m 0) a6) (H : ∀ s, sn_part (sn_D m 7) s → post (f1, f2, f3, f4, f5, a1, a2, a3, a4, a5, s, a7)) : wpX_carryPart post (f1, f2, f3, f4, f5, a1, a2, a3, a4, a5, a6, a7) (nI 1) :=
  pk_loop (fun n i s => wX_carryPart_2 post (nI 1) n (nI i) f1 f2 f3 f4 f5 a1 a2 a3 a4 a5 s a7) (fun i s => sn_part (sn_D m i) s) 7 0 a6 (by omega) hs
    (fun n s h => pk_le 7 7 (fun _ => H s h) (fun z => absurd z (by omega)))
    (fun n i s hi h hn => pk_le 7 i (fun z => absurd z (by omega)) (fun _ => sn_ct hm (fun q => sn_Dle hm) hw hi h (nm_r (nI_1 i) (hn _ (sn_pstep hm h)))))
end
section
variable {post : Int32 → St2 → Prop} {f1 f2 f3 f4 f5 : Int32} {a1 a2 a3 a4 a5 a6 a7 : Nat → Int32}
theorem sn_lf72 {m : Nat} (hm : m ≤ 100000) (h0 : a7 0 = nI 2) (h1 : a7 1 = nI 5) (hw : sn_way m a5) (H : ∀ s, post (nI m) (f1, nI 2, f3, f4, f5, a1, a2, a3, a4, a5, s, a7)) : ∃ n, wX_leastFor_72 post (nI 2) n 1 f1 (nI 2) f3 f4 f5 a1 a2 a3 a4 a5 a6 a7 := by
  have ew : nI 2 - 1 = nI 1 := by decide
  have e1 : (nI 2 - 1).toNatClampNeg = 1 := by rw [ew, nI_clamp (by omega)]
  have ei : (7 : Int32) * (nI 2 - 1) + a7 (nI 2 - 1).toNatClampNeg = nI (7 * 1 + 5) := by
    rw [e1, h1, ew, sn_ix]
  refine ⟨2, pk_le 2 1 (fun z => absurd z (by omega)) (fun _ => sn_sp (m := m) h0 (fun s hs => sn_jp (sn_cp hm hw hs (fun t ht => nm_r (e' := nI 2) (by decide) (pk_le 2 2 (fun _ => ⟨pk_in 1 7 (by omega) ew, pk_in (7 * 1 + 5) 448 (by omega) ei, sn_pv (r' := nI m) ?_ (H t)⟩) (fun z => absurd z (by omega)))))))⟩
  rw [ei, nI_clamp (by omega), ht 5 (by omega)]
  rfl
theorem sn_7s {x1 : Int32} {n k : Nat} (hk : k < 7) (hb : ((x1.toUInt32 >>> ((nI k).toUInt32 &&& Int32.toUInt32 31)).toInt32) &&& 1 = 0) (H : wX_leastFor_7 post x1 f1 f3 f4 f5 n (nI (k + 1)) f2 a1 a2 a3 a4 a5 a6 a7) : wX_leastFor_7 post x1 f1 f3 f4 f5 (n + 1) (nI k) f2 a1 a2 a3 a4 a5 a6 a7 :=
  pk_le 7 k (fun z => absurd z (by omega)) (fun _ => br_t hb (nm_r (nI_1 k) H))
theorem sn_7t {x1 : Int32} {n k j : Nat} (hk : k < 7) (hj : j < 7) (hb : ¬ ((x1.toUInt32 >>> ((nI k).toUInt32 &&& Int32.toUInt32 31)).toInt32) &&& 1 = 0) (H : wX_leastFor_7 post x1 f1 f3 f4 f5 n (nI (k + 1)) (nI (j + 1)) a1 a2 a3 a4 a5 a6 (upd a7 j (nI k))) : wX_leastFor_7 post x1 f1 f3 f4 f5 (n + 1) (nI k) (nI j) a1 a2 a3 a4 a5 a6 a7 :=
  pk_le 7 k (fun z => absurd z (by omega)) (fun _ => br_f hb ⟨pk_in j 7 hj, nm_r (e' := upd a7 j (nI k)) (by rw [nI_clamp (by omega)]) (nm_r (nI_1 j) (nm_r (nI_1 k) H))⟩)
/-- two points wanted -/
theorem sn_7e2 {x1 : Int32} {n x y : Nat} (he : sn_E a1 a2) (hc : sn_C x y a4) (h0 : a7 0 = nI 2) (h1 : a7 1 = nI 5) (H : ∀ s t, post (nI (min x y)) (f1, nI 2, f3, f4, f5, a1, a2, a3, a4, s, t, a7)) : wX_leastFor_7 post x1 f1 f3 f4 f5 (n + 1) (nI 7) (nI 2) a1 a2 a3 a4 a5 a6 a7 :=
  pk_le 7 7 (fun _ => pk_le 2 2 (fun _ => sn_fw he hc (fun s hs => nm_r (e' := nI 2) (by decide) (sn_lf72 (by have h2 := hc.1; omega) h0 h1 hs (fun t => H s t)))) (fun z => absurd z (by omega))) (fun z => absurd z (by omega))
/-- one point wanted -/
theorem sn_7e1 {x1 : Int32} {n : Nat} (H : post 0 (f1, nI 1, f3, f4, f5, a1, a2, a3, a4, a5, a6, a7)) : wX_leastFor_7 post x1 f1 f3 f4 f5 (n + 1) (nI 7) (nI 1) a1 a2 a3 a4 a5 a6 a7 :=
  pk_le 7 7 (fun _ => pk_le 2 1 (fun z => absurd z (by omega)) (fun _ => H)) (fun z => absurd z (by omega))
end
/-- leastFor(marked) answers r -/
def sn_LF (g r : Int32) (a1 a2 a3 a4 : Nat → Int32) : Prop := ∀ (post : Int32 → St2 → Prop) (f2 f3 f4 f5 : Int32) (a5 a6 a7 : Nat → Int32), (∀ (e : Int32) (s t v : Nat → Int32), post r (g, e, f3, f4, f5, a1, a2, a3, a4, s, t, v)) → wpX_leastFor post (g, f2, f3, f4, f5, a1, a2, a3, a4, a5, a6, a7) g
theorem sn_LF36 {x y : Nat} {a1 a2 a3 a4 : Nat → Int32} (he : sn_E a1 a2) (hc : sn_C x y a4) : sn_LF 36 (nI (min x y)) a1 a2 a3 a4 := by
  intro post f2 f3 f4 f5 a5 a6 a7 H
  have t : wX_leastFor_7 post 36 36 f3 f4 f5 8 (nI 0) (nI 0) a1 a2 a3 a4 a5 a6 a7 := by
    refine sn_7s (by omega) (by decide) (sn_7s (by omega) (by decide) (sn_7t (by omega) (by omega) (by decide) (sn_7s (by omega) (by decide) (sn_7s (by omega) (by decide) (sn_7t (by omega) (by omega) (by decide) (sn_7s (by omega) (by decide) ?_))))))
    exact sn_7e2 he hc rfl rfl (fun s t => H _ s t _)
  exact ⟨8, t⟩
theorem sn_LF4 {a1 a2 a3 a4 : Nat → Int32} : sn_LF 4 0 a1 a2 a3 a4 := by
  intro post f2 f3 f4 f5 a5 a6 a7 H
  have t : wX_leastFor_7 post 4 4 f3 f4 f5 8 (nI 0) (nI 0) a1 a2 a3 a4 a5 a6 a7 := by
    refine sn_7s (by omega) (by decide) (sn_7s (by omega) (by decide) (sn_7t (by omega) (by omega) (by decide) (sn_7s (by omega) (by decide) (sn_7s (by omega) (by decide) (sn_7s (by omega) (by decide) (sn_7s (by omega) (by decide) ?_))))))
    exact sn_7e1 (H _ _ _ _)
  exact ⟨8, t⟩
theorem sn_LF32 {a1 a2 a3 a4 : Nat → Int32} : sn_LF 32 0 a1 a2 a3 a4 := by
  intro post f2 f3 f4 f5 a5 a6 a7 H
  have t : wX_leastFor_7 post 32 32 f3 f4 f5 8 (nI 0) (nI 0) a1 a2 a3 a4 a5 a6 a7 := by
    refine sn_7s (by omega) (by decide) (sn_7s (by omega) (by decide) (sn_7s (by omega) (by decide) (sn_7s (by omega) (by decide) (sn_7s (by omega) (by decide) (sn_7t (by omega) (by omega) (by decide) (sn_7s (by omega) (by decide) ?_))))))
    exact sn_7e1 (H _ _ _ _)
  exact ⟨8, t⟩
end
section
/-- the lines stand -/
def sn_P (p q : Nat) (a1 a2 a3 : Nat → Int32) : Prop := (1 ≤ p ∧ p ≤ 100) ∧ (1 ≤ q ∧ q ≤ 100) ∧ sn_E a1 a2 ∧ ∀ k, k < 10 → a3 k = nI (sn_pr p q k)
theorem sn_Pc {p q : Nat} {a1 a2 a3 b : Nat → Int32} (hP : sn_P p q a1 a2 a3) (hb : ∀ k, k < 10 → b k = if a3 k = 0 then 100000 else a3 k) : sn_C p q b := by
  obtain ⟨⟨p1, p2⟩, ⟨q1, q2⟩, _, h3⟩ := hP
  refine ⟨by omega, by omega, fun k hk => ?_⟩
  rw [hb k hk, h3 k hk]
  by_cases k1 : k = 1
  · subst k1
    show (if nI q = 0 then 100000 else nI q) = nI q
    rw [if_neg (nI_ne0 (by omega) (by omega))]
  · by_cases k9 : k = 9
    · subst k9
      show (if nI p = 0 then 100000 else nI p) = nI p
      rw [if_neg (nI_ne0 (by omega) (by omega))]
    · unfold sn_pr sn_c
      rw [if_neg k1, if_neg k9, if_neg k1, if_neg k9, if_pos nI_0]
      rfl
section
variable {post : St2 → Prop} {x1 x2 g f2 f3 f4 f5 : Int32} {a1 a2 a3 a4 a5 a6 a7 : Nat → Int32}
theorem sn_58s {n k : Nat} (hk : k + 1 < 10) (h : a3 (k + 1) = nI 0) (H : wX_findBest_58 post x1 n x2 (nI k) g f2 f3 f4 f5 a1 a2 a3 a4 a5 a6 a7) : wX_findBest_58 post x1 (n + 1) x2 (nI (k + 1)) g f2 f3 f4 f5 a1 a2 a3 a4 a5 a6 a7 :=
  br_f (nI_pos (by omega)) ⟨pk_in (k + 1) 10 hk, br_t (by rw [nI_clamp (by omega), h]; decide) (nm_r (pk_m1 k) H)⟩
theorem sn_58e {n : Nat} (h : a3 0 = nI 0) (H : post (g, f2, f3, f4, f5, a1, a2, a3, a4, a5, a6, a7)) : wX_findBest_58 post x1 (n + 1 + 1) x2 (nI 0) g f2 f3 f4 f5 a1 a2 a3 a4 a5 a6 a7 :=
  br_f (nI_pos (by omega)) ⟨pk_in 0 10 (by omega), br_t (by rw [nI_clamp (by omega), h]; decide) (nm_r (e' := -1) (by decide) (br_t (by decide) H))⟩
theorem sn_58m {n p q : Nat} (hP : sn_P p q a1 a2 a3) (H : wX_findBest_58 post x1 n x2 (nI 1) g f2 f3 f4 f5 a1 a2 a3 a4 a5 a6 a7) : wX_findBest_58 post x1 (n + 1 + 1 + 1 + 1 + 1 + 1 + 1) x2 (nI 8) g f2 f3 f4 f5 a1 a2 a3 a4 a5 a6 a7 := by
  have h3 := hP.2.2.2
  exact sn_58s (by omega) (h3 8 (by omega)) (sn_58s (by omega) (h3 7 (by omega)) (sn_58s (by omega) (h3 6 (by omega)) (sn_58s (by omega) (h3 5 (by omega)) (sn_58s (by omega) (h3 4 (by omega)) (sn_58s (by omega) (h3 3 (by omega)) (sn_58s (by omega) (h3 2 (by omega)) H))))))
/-- a line that stands: it is left out, or taken in -/
theorem sn_58g {n k w : Nat} {r : Int32} (hk : k + 1 < 10) (hw : 1 ≤ w) (hw2 : w ≤ 100) (h3 : a3 (k + 1) = nI w) (hl : sn_LF g r a1 a2 a3 (upd a4 (k + 1) 100000))
    (H1 : r + x2 = x1 → ∀ (e : Int32) (s t v : Nat → Int32), wX_findBest_58 post x1 n x2 (nI k) g e f3 f4 f5 a1 a2 a3 (upd a4 (k + 1) 100000) s t v)
    (H2 : ¬ r + x2 = x1 → ∀ (e : Int32) (s t v : Nat → Int32), wX_findBest_58 post x1 n (x2 + nI w) (nI k) g e f3 f4 (f5 ||| ((1 : Int32) <<< (nI (k + 1) &&& 31))) a1 a2 a3 (upd (upd a4 (k + 1) 100000) (k + 1) 0) s t v) :
    wX_findBest_58 post x1 (n + 1) x2 (nI (k + 1)) g f2 f3 f4 f5 a1 a2 a3 a4 a5 a6 a7 := by
  have ec : (nI (k + 1)).toNatClampNeg = k + 1 := nI_clamp (by omega)
  refine br_f (nI_pos (by omega)) ⟨pk_in (k + 1) 10 hk, br_f (by rw [ec, h3]; exact nI_nle hw (by omega)) ⟨pk_in (k + 1) 10 hk, nm_r (e' := upd a4 (k + 1) 100000) (by rw [ec]) ?_⟩⟩
  refine hl _ _ _ _ _ _ _ _ (fun e s t v => ?_)
  exact br_c (fun z => nm_r (pk_m1 k) (H1 z e s t v)) (fun z => ⟨pk_in (k + 1) 10 hk, nm_r (e' := upd (upd a4 (k + 1) 100000) (k + 1) 0) (by rw [ec]) ⟨pk_in (k + 1) 10 hk, nm_r (e' := x2 + nI w) (by rw [ec, h3]) (nm_e (nm_r (pk_m1 k) (H2 z e s t v)))⟩⟩)
end
section
variable {post : St2 → Prop} {g f2 f3 f4 f5 : Int32} {a1 a2 a3 a4 a5 a6 a7 : Nat → Int32}
/-- the best choice, with the points 2 and 5 -/
theorem sn_fb36 {p q : Nat} (hP : sn_P p q a1 a2 a3) (H : ∀ (e h : Int32) (b s t v : Nat → Int32), ((h.toUInt32 >>> ((1 : Int32).toUInt32 &&& Int32.toUInt32 31)).toInt32) &&& 1 = (if q ≤ p then 1 else 0) → post (36, e, 1, nI (min p q), h, a1, a2, a3, b, s, t, v)) : wpX_findBest post (36, f2, 0, f4, f5, a1, a2, a3, a4, a5, a6, a7) := by
  have hE := hP.2.2.1
  have h3 := hP.2.2.2
  have p1 := hP.1.1
  have p2 := hP.1.2
  have q1 := hP.2.1.1
  have q2 := hP.2.1.2
  have hm : nI (min p q) < 100000 := nI_lt (b := 100000) (by omega) (by omega)
  refine br_t rfl (sn_count (fun b hb => ?_))
  have hC := sn_Pc hP hb
  refine sn_LF36 hE hC _ _ _ _ _ _ _ _ (fun e s t v => br_t hm (br_t hm ⟨11, ?_⟩))
  refine sn_58g (k := 8) (n := 10) (w := p) (by omega) p1 p2 (h3 9 (by omega)) (sn_LF36 hE (sn_C9 (v := 100000) hC (by omega))) (fun z e s t v => ?_) (fun z e s t v => ?_)
  · rw [show min 100000 q = q by omega, ← nI_0, nI_add, nI_eq (by omega) (by omega)] at z
    refine sn_58m (n := 3) hP (sn_58g (k := 0) (n := 2) (w := q) (by omega) q1 q2 (h3 1 (by omega)) (sn_LF36 hE (sn_C1 (v := 100000) (sn_C9 (v := 100000) hC (by omega)) (by omega))) (fun z e s t v => ?_) (fun z e s t v => ?_))
    · rw [show min 100000 100000 = 100000 by omega, ← nI_0, nI_add, nI_eq (by omega) (by omega)] at z
      omega
    · refine sn_58e (n := 0) (h3 0 (by omega)) (H _ _ _ _ _ _ ?_)
      rw [if_pos (by omega)]
      decide
  · rw [show min 100000 q = q by omega, ← nI_0, nI_add, nI_eq (by omega) (by omega)] at z
    refine sn_58m (n := 3) hP (sn_58g (k := 0) (n := 2) (w := q) (by omega) q1 q2 (h3 1 (by omega)) (sn_LF36 hE (sn_C1 (v := 100000) (sn_C9 (v := 0) (sn_C9 (v := 100000) hC (by omega)) (by omega)) (by omega))) (fun z e s t v => ?_) (fun z e s t v => ?_))
    · refine sn_58e (n := 0) (h3 0 (by omega)) (H _ _ _ _ _ _ ?_)
      rw [if_neg (by omega)]
      decide
    · rw [show min 0 100000 = 0 by omega, ← nI_0, nI_add, nI_add, nI_eq (by omega) (by omega)] at z
      omega
/-- the best choice, with one point alone -/
theorem sn_fb0 {p q : Nat} (hP : sn_P p q a1 a2 a3) (hl : ∀ b, sn_LF g 0 a1 a2 a3 b) (H : ∀ (e h : Int32) (b s t v : Nat → Int32), post (g, e, 1, 0, h, a1, a2, a3, b, s, t, v)) : wpX_findBest post (g, f2, 0, f4, f5, a1, a2, a3, a4, a5, a6, a7) := by
  have h3 := hP.2.2.2
  have hm : (0 : Int32) < 100000 := by decide
  refine br_t rfl (sn_count (fun b hb => ?_))
  refine hl _ _ _ _ _ _ _ _ _ (fun e s t v => br_t hm (br_t hm ⟨11, ?_⟩))
  refine sn_58g (k := 8) (n := 10) (w := p) (by omega) hP.1.1 hP.1.2 (h3 9 (by omega)) (hl _) (fun z e s t v => ?_) (fun z e s t v => absurd (by decide) z)
  refine sn_58m (n := 3) hP (sn_58g (k := 0) (n := 2) (w := q) (by omega) hP.2.1.1 hP.2.1.2 (h3 1 (by omega)) (hl _) (fun z e s t v => ?_) (fun z e s t v => absurd (by decide) z))
  exact sn_58e (n := 0) (h3 0 (by omega)) (H _ _ _ _ _ _)
/-- the best choice is known -/
theorem sn_fbk (H : post (g, f2, 1, f4, f5, a1, a2, a3, a4, a5, a6, a7)) : wpX_findBest post (g, f2, 1, f4, f5, a1, a2, a3, a4, a5, a6, a7) := br_f (by decide) H
end
section
variable {post : Int32 → St2 → Prop} {g f2 f3 f4 f5 : Int32} {a1 a2 a3 a4 a5 a6 a7 : Nat → Int32}
theorem sn_line9 {ps : Int32 → Prop} {p q : Nat} (hP : sn_P p q a1 a2 a3) (H : ps 1) : wpX_isLine ps (g, f2, f3, f4, f5, a1, a2, a3, a4, a5, a6, a7) 9 := by
  have e : a3 (9 : Int32).toNatClampNeg = nI p := by
    rw [show (9 : Int32).toNatClampNeg = 9 from by decide, hP.2.2.2 9 (by omega)]
    rfl
  have p1 := hP.1.1
  have p2 := hP.1.2
  exact br_f (by decide) (br_f (by decide) ⟨pk_in 9 10 (by omega), br_f (by rw [e]; exact nI_nle p1 (by omega)) H⟩)
theorem sn_line1 {ps : Int32 → Prop} {p q : Nat} (hP : sn_P p q a1 a2 a3) (H : ps 1) : wpX_isLine ps (g, f2, f3, f4, f5, a1, a2, a3, a4, a5, a6, a7) 1 := by
  have e : a3 (1 : Int32).toNatClampNeg = nI q := by
    rw [show (1 : Int32).toNatClampNeg = 1 from by decide, hP.2.2.2 1 (by omega)]
    rfl
  have p1 := hP.2.1.1
  have p2 := hP.2.1.2
  exact br_f (by decide) (br_f (by decide) ⟨pk_in 1 10 (by omega), br_f (by rw [e]; exact nI_nle p1 (by omega)) H⟩)
theorem sn_chosen {p q : Nat} (hP : sn_P p q a1 a2 a3) (H : post (((f5.toUInt32 >>> ((1 : Int32).toUInt32 &&& Int32.toUInt32 31)).toInt32) &&& 1) (36, f2, 1, nI (min p q), f5, a1, a2, a3, a4, a5, a6, a7)) : wpX_chosen post (36, f2, 1, nI (min p q), f5, a1, a2, a3, a4, a5, a6, a7) 1 := by
  have p1 := hP.1.2
  unfold wpX_chosen
  refine sn_line1 hP ?_
  exact br_f (by decide) (sn_fbk (br_t (nI_pos' (by omega)) H))
theorem sn_with {p q : Nat} (hP : sn_P p q a1 a2 a3) (H : ∀ (e : Int32) (b s t v : Nat → Int32), post (nI p) (36, e, f3, f4, f5, a1, a2, a3, b, s, t, v)) : wpX_with post (36, f2, f3, f4, f5, a1, a2, a3, a4, a5, a6, a7) 9 := by
  unfold wpX_with
  refine sn_line9 hP ?_
  refine br_f (by decide) (sn_count (fun b hb => ⟨pk_in 9 10 (by omega), nm_r (e' := upd b 9 (nI 0)) rfl ?_⟩))
  refine sn_LF36 hP.2.2.1 (sn_C9 (v := 0) (sn_Pc hP hb) (by omega)) _ _ _ _ _ _ _ _ (fun e s t v => ?_)
  have e0 : min 0 q = 0 := by omega
  refine br_t (by rw [e0]; decide) ⟨pk_in 9 10 (by omega), sn_pv (r' := nI p) ?_ (H e _ s t v)⟩
  rw [e0, show (9 : Int32).toNatClampNeg = 9 from by decide, hP.2.2.2 9 (by omega), nI_add]
  show nI (0 + p) = nI p
  rw [Nat.zero_add]
theorem sn_without {p q : Nat} (hP : sn_P p q a1 a2 a3) (H : ∀ (e : Int32) (b s t v : Nat → Int32), post (nI q) (36, e, f3, f4, f5, a1, a2, a3, b, s, t, v)) : wpX_without post (36, f2, f3, f4, f5, a1, a2, a3, a4, a5, a6, a7) 9 := by
  have q2 := hP.2.1.2
  have e0 : min 100000 q = q := by omega
  unfold wpX_without
  refine sn_line9 hP ?_
  refine br_f (by decide) (sn_count (fun b hb => ⟨pk_in 9 10 (by omega), nm_r (e' := upd b 9 (nI 100000)) rfl ?_⟩))
  refine sn_LF36 hP.2.2.1 (sn_C9 (v := 100000) (sn_Pc hP hb) (by omega)) _ _ _ _ _ _ _ _ (fun e s t v => ?_)
  rw [e0]
  exact br_t (nI_lt (b := 100000) (by omega) (by omega)) (H e _ s t v)
end
end
section
theorem sn_two (x y : Int32) (k : Nat) : upd (upd (fun _ => 0) 9 x) 1 y k = if k = 1 then y else if k = 9 then x else 0 := by
  by_cases k1 : k = 1
  · rw [k1, pk_us, if_pos rfl]
  · rw [pk_un k1, if_neg k1]
    by_cases k9 : k = 9
    · rw [k9, pk_us, if_pos rfl]
    · rw [pk_un k9, if_neg k9]
theorem sn_nif (k j a b : Nat) : nI (if k = j then a else b) = if k = j then nI a else nI b := by
  split <;> rfl
theorem sn_P0 {p q : Nat} (p1 : 1 ≤ p) (p2 : p ≤ 100) (q1 : 1 ≤ q) (q2 : q ≤ 100) : sn_P p q (upd (upd (fun _ => 0) 9 2) 1 5) (upd (upd (fun _ => 0) 9 5) 1 2) (upd (upd (fun _ => 0) 9 (nI p)) 1 (nI q)) := by
  refine ⟨⟨p1, p2⟩, ⟨q1, q2⟩, ⟨fun k _ => ?_, fun k _ => ?_⟩, fun k _ => ?_⟩
  · rw [sn_two]
    unfold sn_eA
    rw [sn_nif, sn_nif]
    rfl
  · rw [sn_two]
    unfold sn_eB
    rw [sn_nif, sn_nif]
    rfl
  · rw [sn_two]
    unfold sn_pr
    rw [sn_nif, sn_nif]
    rfl
theorem sn_price (x : Int32) : ∃ p : Nat, 1 ≤ p ∧ p ≤ 100 ∧ 1 + ((x &&& 255) - (x &&& 255) / 100 * 100) = nI p := by
  obtain ⟨j, hj, e⟩ := pk_andE x (m := 255) 8 (by decide)
  refine ⟨1 + j % 100, by omega, by omega, ?_⟩
  rw [e, show (100 : Int32) = nI 100 from rfl, pk_rem (by omega) (by omega) (by omega), show (1 : Int32) = nI 1 from rfl, nI_add]
theorem sn_cell {post : Int32 → Prop} {L i : Nat} {xs : Nat → Int32} (hL : L ≤ 3) (hi : i < 3) (H : ∀ x, post x) : wpL_cellAt post L xs () (nI i) :=
  pk_le L i (fun _ => H _) (fun z => ⟨pk_in i L z, H _⟩)
section
variable {post : Int32 → St2 → Prop} {g f2 f3 f4 f5 : Int32} {a1 a2 a3 a4 a5 a6 a7 : Nat → Int32}
theorem sn_l9 {p : Nat} (p1 : 1 ≤ p) (p2 : p ≤ 100) (H : post 0 (g, f2, 0, f4, f5, upd a1 9 2, upd a2 9 5, upd a3 9 (nI p), a4, a5, a6, a7)) : wpX_line post (g, f2, f3, f4, f5, a1, a2, a3, a4, a5, a6, a7) 9 2 5 (nI p) :=
  br_f (by decide) (br_f (by decide) (br_f (by decide) (br_f (by decide) (br_f (by decide) (br_f (by decide) (br_f (by decide) (br_f (by decide) (br_f (by decide) (pk_lt p 1 (fun z => absurd z (by omega)) (fun _ => pk_le p 100 (fun _ => ⟨pk_in 9 10 (by omega), nm_r rfl ⟨pk_in 9 10 (by omega), nm_r rfl ⟨pk_in 9 10 (by omega), nm_r rfl H⟩⟩⟩) (fun z => absurd z (by omega))))))))))))
theorem sn_l1 {p : Nat} (p1 : 1 ≤ p) (p2 : p ≤ 100) (H : post 0 (g, f2, 0, f4, f5, upd a1 1 5, upd a2 1 2, upd a3 1 (nI p), a4, a5, a6, a7)) : wpX_line post (g, f2, f3, f4, f5, a1, a2, a3, a4, a5, a6, a7) 1 5 2 (nI p) :=
  br_f (by decide) (br_f (by decide) (br_f (by decide) (br_f (by decide) (br_f (by decide) (br_f (by decide) (br_f (by decide) (br_f (by decide) (br_f (by decide) (pk_lt p 1 (fun z => absurd z (by omega)) (fun _ => pk_le p 100 (fun _ => ⟨pk_in 1 10 (by omega), nm_r rfl ⟨pk_in 1 10 (by omega), nm_r rfl ⟨pk_in 1 10 (by omega), nm_r rfl H⟩⟩⟩) (fun z => absurd z (by omega))))))))))))
theorem sn_mk2 (H : ∀ r, post r (4, f2, 0, f4, f5, a1, a2, a3, a4, a5, a6, a7)) : wpX_mark post (0, f2, f3, f4, f5, a1, a2, a3, a4, a5, a6, a7) 2 1 :=
  br_f (by decide) (br_f (by decide) (br_f (by decide) (nm_e (br_f (by decide) (nm_r (e' := 4) (by decide) (H _))))))
theorem sn_mk5 (H : ∀ r, post r (36, f2, 0, f4, f5, a1, a2, a3, a4, a5, a6, a7)) : wpX_mark post (4, f2, f3, f4, f5, a1, a2, a3, a4, a5, a6, a7) 5 1 :=
  br_f (by decide) (br_f (by decide) (br_f (by decide) (nm_e (br_f (by decide) (nm_r (e' := 36) (by decide) (H _))))))
/-- a mark taken off -/
theorem sn_off {x r g' : Int32} (h0 : ¬ x < 0) (h6 : ¬ 6 < x) (hr : (((36 : Int32).toUInt32 >>> (x.toUInt32 &&& Int32.toUInt32 31)).toInt32) &&& 1 = r) (hg : (36 : Int32) &&& (((1 : Int32) <<< (x &&& 31)) ^^^ (-1)) = g') (H : post r (g', f2, 0, f4, f5, a1, a2, a3, a4, a5, a6, a7)) : wpX_mark post (36, f2, f3, f4, f5, a1, a2, a3, a4, a5, a6, a7) x 0 :=
  br_f h0 (br_f h6 (br_f (by decide) (nm_r hr (br_t rfl (nm_r hg H)))))
theorem sn_bad {x : Int32} (h : x < 0 ∨ 6 < x) (H : post (-2) (g, f2, f3, f4, f5, a1, a2, a3, a4, a5, a6, a7)) : wpX_mark post (g, f2, f3, f4, f5, a1, a2, a3, a4, a5, a6, a7) x 0 :=
  br_c (fun _ => br_t rfl H) (fun z => br_t (h.resolve_left z) (br_t rfl H))
end
section
variable {post : Int32 → St0 → Prop} {mc ms kc ks p q : Nat} {g f2 f3 f4 f5 x2 : Int32} {a1 a2 a3 a4 a5 a6 a7 : Nat → Int32}
theorem sn_min {z0 : Int32} (hz : ¬ z0 = 1) (p2 : p ≤ 100) (q2 : q ≤ 100) (H : post 1 ()) : (z0 = 1 → wL_lawOf_201 post mc ms 0 (nI (min p q)) kc ks) ∧ (¬ z0 = 1 → ((nI q ≤ nI p → wL_lawOf_201 post mc ms (nI q) (nI (min p q)) kc ks) ∧ (¬ nI q ≤ nI p → wL_lawOf_201 post mc ms (nI p) (nI (min p q)) kc ks))) :=
  br_f hz (pk_le q p (fun z => br_t (by rw [show min p q = q by omega]) H) (fun z => br_t (by rw [show min p q = p by omega]) H))
/-- the last two checks: no point -/
theorem sn_z2 (hP : sn_P p q a1 a2 a3) (h : x2 < 0 ∨ 6 < x2) (H : post 1 ()) : wL_lawOf_158 post mc ms x2 (nI p) (nI q) (-2) kc ks 36 f2 1 (nI (min p q)) f5 a1 a2 a3 a4 a5 a6 a7 :=
  sn_bad h (br_t rfl (sn_fbk (f5 := f5) (sn_min (by decide) hP.1.2 hP.2.1.2 H)))
/-- a point that isn't marked -/
theorem sn_z0 (hP : sn_P p q a1 a2 a3) (h0 : ¬ x2 < 0) (h6 : ¬ 6 < x2) (hr : (((36 : Int32).toUInt32 >>> (x2.toUInt32 &&& Int32.toUInt32 31)).toInt32) &&& 1 = 0) (hg : (36 : Int32) &&& (((1 : Int32) <<< (x2 &&& 31)) ^^^ (-1)) = 36) (H : post 1 ()) : wL_lawOf_158 post mc ms x2 (nI p) (nI q) 0 kc ks 36 f2 f3 f4 f5 a1 a2 a3 a4 a5 a6 a7 :=
  sn_off h0 h6 hr hg (br_t rfl (sn_fb36 (f5 := f5) hP (fun _ _ _ _ _ _ _ => sn_min (by decide) hP.1.2 hP.2.1.2 H)))
/-- a point that is marked -/
theorem sn_z1 (hP : sn_P p q a1 a2 a3) (h0 : ¬ x2 < 0) (h6 : ¬ 6 < x2) (hr : (((36 : Int32).toUInt32 >>> (x2.toUInt32 &&& Int32.toUInt32 31)).toInt32) &&& 1 = 1) (hg : (36 : Int32) &&& (((1 : Int32) <<< (x2 &&& 31)) ^^^ (-1)) = g) (hl : ∀ b, sn_LF g 0 a1 a2 a3 b) (H : post 1 ()) : wL_lawOf_158 post mc ms x2 (nI p) (nI q) 1 kc ks 36 f2 f3 f4 f5 a1 a2 a3 a4 a5 a6 a7 :=
  sn_off h0 h6 hr hg (br_t rfl (sn_fb0 (f5 := f5) hP hl (fun _ _ _ _ _ _ => br_t rfl (br_t rfl H))))
theorem sn_99 {z : Int32} (hP : sn_P p q a1 a2 a3) (H : post 1 ()) : wL_lawOf_99 post mc ms x2 (nI p) (nI q) z z kc ks 36 f2 1 (nI (min p q)) f5 a1 a2 a3 a4 a5 a6 a7 := by
  refine br_t rfl (sn_with hP (fun e b s t v => br_t rfl (sn_without hP (fun e b s t v => br_t rfl ?_))))
  refine br_c (fun z => sn_z2 hP (Or.inl z) H) (fun h0 => br_c (fun h6 => ?_) (fun z => sn_z2 hP (Or.inr (Int32.not_le.mp z)) H))
  obtain ⟨j, hj, rfl⟩ := nI_of2 (n := 6) (by decide) h0 h6
  have c : j = 0 ∨ j = 1 ∨ j = 2 ∨ j = 3 ∨ j = 4 ∨ j = 5 ∨ j = 6 := by omega
  rcases c with rfl | rfl | rfl | rfl | rfl | rfl | rfl
  · exact br_f (by decide) (br_f (by decide) (sn_z0 hP (by decide) (by decide) (by decide) (by decide) H))
  · exact br_f (by decide) (br_f (by decide) (sn_z0 hP (by decide) (by decide) (by decide) (by decide) H))
  · exact br_t (by decide) (sn_z1 (g := 32) hP (by decide) (by decide) (by decide) (by decide) (fun _ => sn_LF32) H)
  · exact br_f (by decide) (br_f (by decide) (sn_z0 hP (by decide) (by decide) (by decide) (by decide) H))
  · exact br_f (by decide) (br_f (by decide) (sn_z0 hP (by decide) (by decide) (by decide) (by decide) H))
  · exact br_f (by decide) (br_t (by decide) (sn_z1 (g := 4) hP (by decide) (by decide) (by decide) (by decide) (fun _ => sn_LF4) H))
  · exact br_f (by decide) (br_f (by decide) (sn_z0 hP (by decide) (by decide) (by decide) (by decide) H))
theorem sn_79 {z : Int32} (hP : sn_P p q a1 a2 a3) (hf : ((f5.toUInt32 >>> ((1 : Int32).toUInt32 &&& Int32.toUInt32 31)).toInt32) &&& 1 = (if q ≤ p then 1 else 0)) (hz : nI (min p q) = z) (H : post 1 ()) : wL_lawOf_79 post mc ms x2 (nI p) (nI q) z (nI (min p q)) kc ks 36 f2 1 (nI (min p q)) f5 a1 a2 a3 a4 a5 a6 a7 := by
  have p2 := hP.1.2
  have q2 := hP.2.1.2
  refine br_t hz (sn_chosen hP ?_)
  rw [hf]
  refine pk_lt p q (fun z => ?_) (fun z => ?_)
  · rw [if_neg (by omega)]
    exact sn_99 hP H
  · rw [if_pos (by omega)]
    exact sn_99 hP H
end
theorem sn_lawOf {post : Int32 → St0 → Prop} (x y z : Int32) (H : post 1 ()) : wpL_lawOf post 296 4720 () x y z := by
  obtain ⟨p, p1, p2, ep⟩ := sn_price x
  obtain ⟨q, q1, q2, eq⟩ := sn_price y
  refine ⟨by omega, by omega, 7, 544, by omega, by omega, by omega, by omega, by omega, by omega, by omega, by omega, by omega, by omega, by omega, by omega, by omega, by omega, by omega, by omega, ⟨by decide, ?_⟩⟩
  rw [ep]
  refine ⟨by decide, ?_⟩
  rw [eq]
  have hP := sn_P0 p1 p2 q1 q2
  refine sn_l9 p1 p2 (br_t rfl (sn_l1 q1 q2 (br_t rfl (sn_mk2 (fun _ => sn_mk5 (fun _ => sn_fb36 hP (fun e h b s t v hh => ?_)))))))
  exact pk_le q p (fun z => sn_79 hP hh (by rw [show min p q = q by omega]) H) (fun z => sn_79 hP hh (by rw [show min p q = p by omega]) H)
theorem i_vc (xs : Nat → Int32) (L : Nat) (hL : L ≤ 3) : wpL_law (fun r => r = 1) L xs :=
  sn_cell (i := 0) hL (by omega) (fun x => sn_cell (i := 1) hL (by omega) (fun y => sn_cell (i := 2) hL (by omega) (fun z => ⟨296, 4720, by omega, by omega, sn_lawOf x y z rfl⟩)))
end
