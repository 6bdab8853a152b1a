section
/-! plain facts: ranges of an array that were mapped, least and greatest, points of a script -/
def vw_mn (t x : Int32) : Int32 := if x ≤ t then x else t
def vw_mx (t x : Int32) : Int32 := if t ≤ x then x else t
/-- the array a, its places lo .. hi-1 mapped by g -/
def vw_rg (g : Int32 → Int32) (a : Nat → Int32) (lo hi : Nat) : Nat → Int32 := fun j => if lo ≤ j ∧ j < hi then g (a j) else a j
theorem vw_rg_in {g : Int32 → Int32} {a : Nat → Int32} {lo hi j : Nat} (h : lo ≤ j) (h2 : j < hi) : vw_rg g a lo hi j = g (a j) := if_pos ⟨h, h2⟩
theorem vw_rg_out {g : Int32 → Int32} {a : Nat → Int32} {lo hi j : Nat} (h : j < lo ∨ hi ≤ j) : vw_rg g a lo hi j = a j := if_neg (by omega)
theorem vw_rg0 {g : Int32 → Int32} {a : Nat → Int32} {lo : Nat} : vw_rg g a lo lo = a := funext fun j => vw_rg_out (by omega)
theorem vw_rgS {g : Int32 → Int32} {a : Nat → Int32} {lo k : Nat} {x : Int32} (h : lo ≤ k) (hx : x = g (a k)) : upd (vw_rg g a lo k) k x = vw_rg g a lo (k + 1) := by
  funext j
  by_cases e : j = k
  · rw [e, pk_us, vw_rg_in h (by omega), hx]
  · rw [pk_un e]
    by_cases e2 : lo ≤ j ∧ j < k
    · rw [vw_rg_in e2.1 e2.2, vw_rg_in e2.1 (by omega)]
    · rw [vw_rg_out (by omega), vw_rg_out (by omega)]
theorem vw_at {f : Nat → Int32} {x : Int32} {i : Nat} (hx : x = nI i) (h : i < 2 ^ 31) : f x.toNatClampNeg = f i := by
  rw [hx, nI_clamp h]
theorem vw_shr {s : Nat} (h : s ≤ 126) : nI s >>> ((2 : Int32) &&& 31) = nI (s / 4) := pk_shrN (by omega) _ 2 (by decide)
theorem vw_rem (x : Int32) (d : Nat) (h0 : 0 < d) (hd : d < 2 ^ 31) : ∃ j : Nat, j < d ∧ (x &&& 255) - (x &&& 255) / nI d * nI d = nI j := by
  obtain ⟨k, hk, e⟩ := pk_andE x (m := 255) 8 (by decide)
  exact ⟨k % d, Nat.mod_lt _ h0, by rw [e]; exact pk_rem (by omega) h0 hd⟩
theorem vw_4 (e r : Nat) : 4 * nI e + nI r = nI (4 * e + r) := by
  show nI 4 * nI e + nI r = nI (4 * e + r)
  rw [pk_mul, nI_add]
theorem vw_point {post : Int32 → Prop} {u : St0} {p0 : Int32} (H : ∀ c : Nat, c ≤ 122 → c % 4 ≠ 3 → post (nI c)) : wpL_point post u p0 := by
  obtain ⟨e, he, E⟩ := vw_rem p0 31 (by decide) (by decide)
  obtain ⟨r, hr, R⟩ := vw_rem (p0 >>> ((8 : Int32) &&& 31)) 3 (by decide) (by decide)
  have R' : ((p0 >>> ((8 : Int32) &&& 31)) &&& 255) - ((p0 >>> ((8 : Int32) &&& 31)) &&& 255) / 3 * 3 = nI r := R
  refine ⟨by decide, nm_r E ⟨by decide, ?_⟩⟩
  rw [R', vw_4]
  exact H (4 * e + r) (by omega) (by omega)
/-- a target: of a later epoch than the source a -/
theorem vw_far {a : Nat} (ha : a ≤ 122) (q : Int32) : ¬ (31 - (nI a >>> ((2 : Int32) &&& 31))) = 0 ∧ ∃ b : Nat, b ≤ 126 ∧ b % 4 ≠ 3 ∧ a / 4 < b / 4 ∧
    (4 * (((nI a >>> ((2 : Int32) &&& 31)) + 1) + ((q &&& 255) - (q &&& 255) / (31 - (nI a >>> ((2 : Int32) &&& 31))) * (31 - (nI a >>> ((2 : Int32) &&& 31)))))) + (((q >>> ((8 : Int32) &&& 31)) &&& 255) - ((q >>> ((8 : Int32) &&& 31)) &&& 255) / 3 * 3) = nI b := by
  obtain ⟨r, hr, R⟩ := vw_rem (q >>> ((8 : Int32) &&& 31)) 3 (by decide) (by decide)
  have R' : ((q >>> ((8 : Int32) &&& 31)) &&& 255) - ((q >>> ((8 : Int32) &&& 31)) &&& 255) / 3 * 3 = nI r := R
  have S : 31 - nI (a / 4) = nI (31 - a / 4) := pk_sub (a := 31) (by omega)
  obtain ⟨e, he, E⟩ := vw_rem q (31 - a / 4) (by omega) (by omega)
  rw [vw_shr (by omega), S, E, R', nI_1, nI_add, vw_4]
  exact ⟨nI_ne0 (by omega) (by omega), 4 * (a / 4 + 1 + e) + r, by omega, by omega, by omega, rfl⟩
theorem vw_val {post : Int32 → Prop} {u : St0} {v : Nat} (h : v ≤ 7) (hp : post 1) : wpX_isValidator post u (nI v) :=
  pk_lt v 0 (fun z => absurd z (by omega)) (fun _ => pk_lt 7 v (fun z => absurd z (by omega)) (fun _ => hp))
theorem vw_cp {post : Int32 → Prop} {u : St0} {c : Nat} (h : c ≤ 126) (h3 : c % 4 ≠ 3) (hp : post 1) : wpX_isCheckpoint post u (nI c) := by
  have e : nI c &&& 3 = nI (c % 4) := pk_andN (by omega) 2 (by decide)
  refine pk_lt c 0 (fun z => absurd z (by omega)) (fun _ => pk_lt 126 c (fun z => absurd z (by omega)) (fun _ => ?_))
  rw [e]
  exact pk_eq (c % 4) 3 (fun z => absurd z h3) (fun _ => hp)
end
section
/-! the methods but vote -/
def vw_z : Nat → Int32 := fun _ => 0
def vw_i1 : Nat → Int32 := vw_rg (fun _ => 1) (fun _ => 0) 0 8
def vw_i2 : Nat → Int32 := vw_rg (fun _ => 32) (fun _ => 0) 0 256
def vw_i3 : Nat → Int32 := vw_rg (fun _ => -1) (fun _ => 0) 0 256
theorem vw_init103 {post : St2 → Prop} {mc ms kc ks : Nat} {f0 f1 f2 f3 : Int32} {b1 b2 b3 b4 b5 b6 b7 b8 b9 : Nat → Int32}
    (H : post (f0, f1, f2, f3, b1, vw_rg (fun _ => 32) b2 0 256, vw_rg (fun _ => -1) b3 0 256, b4, b5, b6, b7, b8, b9)) : ∃ n, wX_init_103 post mc ms kc ks f0 f1 f2 f3 n 0 b1 b2 b3 b4 b5 b6 b7 b8 b9 :=
  pk_loop (fun n i (s : (Nat → Int32) × (Nat → Int32)) => wX_init_103 post mc ms kc ks f0 f1 f2 f3 n (nI i) b1 s.1 s.2 b4 b5 b6 b7 b8 b9) (fun i s => s = (vw_rg (fun _ => 32) b2 0 i, vw_rg (fun _ => -1) b3 0 i)) 256 0 (b2, b3) (by omega) (by rw [vw_rg0, vw_rg0])
    (fun n s h => by subst h; exact pk_le 256 256 (fun _ => H) (fun z => absurd z (by omega)))
    (fun n i s hi h hw => by
      subst h
      exact pk_le 256 i (fun z => absurd z (by omega)) (fun _ => ⟨pk_in i 256 hi, nm_r (e' := vw_rg (fun _ => 32) b2 0 (i + 1)) (by rw [nI_clamp (by omega)]; exact vw_rgS (g := fun _ => 32) (a := b2) (Nat.zero_le i) rfl) ⟨pk_in i 256 hi, nm_r (e' := vw_rg (fun _ => -1) b3 0 (i + 1)) (by rw [nI_clamp (by omega)]; exact vw_rgS (g := fun _ => -1) (a := b3) (Nat.zero_le i) rfl) (nm_r (nI_1 i) (hw (vw_rg (fun _ => 32) b2 0 (i + 1), vw_rg (fun _ => -1) b3 0 (i + 1)) rfl))⟩⟩))
theorem vw_init82 {post : St2 → Prop} {mc ms kc ks : Nat} {f0 f1 f2 f3 : Int32} {b1 b2 b3 b4 b5 b6 b7 b8 b9 : Nat → Int32}
    (H : post (f0, f1, f2, f3, vw_rg (fun _ => 1) b1 0 8, vw_rg (fun _ => 32) b2 0 256, vw_rg (fun _ => -1) b3 0 256, b4, b5, b6, b7, b8, b9)) : ∃ n, wX_init_82 post mc ms kc ks f0 f1 f2 f3 n 0 b1 b2 b3 b4 b5 b6 b7 b8 b9 :=
  pk_loop (fun n i s => wX_init_82 post mc ms kc ks f0 f1 f2 f3 n (nI i) s b2 b3 b4 b5 b6 b7 b8 b9) (fun i s => s = vw_rg (fun _ => 1) b1 0 i) 8 0 b1 (by omega) (by rw [vw_rg0])
    (fun n s h => by subst h; exact pk_le 8 8 (fun _ => vw_init103 H) (fun z => absurd z (by omega)))
    (fun n i s hi h hw => by
      subst h
      exact pk_le 8 i (fun z => absurd z (by omega)) (fun _ => ⟨pk_in i 8 hi, nm_r (by rw [nI_clamp (by omega)]; exact vw_rgS (by omega) rfl) (nm_r (nI_1 i) (hw _ rfl))⟩))
theorem vw_init {post : St2 → Prop} {mc ms : Nat} {f0 f1 f2 f3 : Int32} (hc : 9 ≤ mc) (hs : 1104 ≤ ms) (H : post (f0, f1, f2, f3, vw_i1, vw_i2, vw_i3, vw_z, vw_z, vw_z, vw_z, vw_z, vw_z)) : wpX_init post mc ms (f0, f1, f2, f3) :=
  ⟨by omega, by omega, by omega, by omega, by omega, by omega, by omega, by omega, by omega, by omega, by omega, by omega, by omega, by omega, by omega, by omega, by omega, by omega, vw_init82 H⟩
section
variable {f0 f1 f2 f3 : Int32} {a1 a2 a3 a4 a5 a6 a7 a8 a9 : Nat → Int32}
theorem vw_linkOf {post : Int32 → Prop} {n : Nat} {x1 x2 : Int32} (hn : n ≤ 64)
    (Hs : ∀ k, k < n → a6 k = x1 → a7 k = x2 → (∀ j, j < k → ¬ (a6 j = x1 ∧ a7 j = x2)) → post (nI k))
    (Hn : (∀ j, j < n → ¬ (a6 j = x1 ∧ a7 j = x2)) → post (-1)) : wpX_linkOf post (f0, f1, nI n, f3, a1, a2, a3, a4, a5, a6, a7, a8, a9) x1 x2 :=
  pk_loop (σ := Unit) (fun m i _ => wX_linkOf_2 post x1 x2 f0 f1 (nI n) f3 a1 a2 a3 a4 a5 a6 a7 a8 a9 m (nI i)) (fun i _ => ∀ j, j < i → ¬ (a6 j = x1 ∧ a7 j = x2)) n 0 () (by omega) (fun j hj => absurd hj (by omega))
    (fun m _ h => pk_le n n (fun _ => Hn h) (fun z => absurd z (by omega)))
    (fun m i _ hi h hw => by
      have e6 : a6 (nI i).toNatClampNeg = a6 i := vw_at rfl (by omega)
      have e7 : a7 (nI i).toNatClampNeg = a7 i := vw_at rfl (by omega)
      exact pk_le n i (fun z => absurd z (by omega)) (fun _ => ⟨pk_in i 64 (by omega), br_c (fun g => ⟨pk_in i 64 (by omega), br_c (fun g2 => Hs i hi (e6.symm.trans g) (e7.symm.trans g2) h) (fun g2 => nm_r (nI_1 i) (hw () (lt_s h (fun z => g2 (e7.trans z.2)))))⟩) (fun g => nm_r (nI_1 i) (hw () (lt_s h (fun z => g (e6.trans z.1)))))⟩))
/-- the verdict: v the validator, f and t the epochs -/
def vw_J (a2 a3 a4 : Nat → Int32) (v f t : Nat) : Int32 := (if a4 (32 * v + t) ≤ 0 then 0 else 1) + (if nI t ≤ a2 (32 * v + f) then 0 else 2) + (if a3 (32 * v + f) ≤ nI t then 0 else 4)
theorem vw_j45 {post : Int32 → Prop} {v f t : Nat} {z0 z1 : Int32} (hv : v ≤ 7) (hf : f < 32) (hp : post (z1 + z0 + (if a3 (32 * v + f) ≤ nI t then 0 else 4))) : wX_judge_45 post (nI f) (nI t) (nI (32 * v)) z0 z1 f0 f1 f2 f3 a1 a2 a3 a4 a5 a6 a7 a8 a9 := by
  have e : a3 (nI (32 * v) + nI f).toNatClampNeg = a3 (32 * v + f) := vw_at (nI_add _ _) (by omega)
  refine nm_e ⟨pk_in (32 * v + f) 256 (by omega) (nI_add _ _), ?_⟩
  rw [e]
  refine br_c (fun g => nm_e ?_) (fun g => nm_e ?_)
  · rw [if_pos g] at hp
    exact hp
  · rw [if_neg g] at hp
    exact hp
theorem vw_j23 {post : Int32 → Prop} {v f t : Nat} {z0 : Int32} (hv : v ≤ 7) (hf : f < 32) (hp : post (z0 + (if nI t ≤ a2 (32 * v + f) then 0 else 2) + (if a3 (32 * v + f) ≤ nI t then 0 else 4))) : wX_judge_23 post (nI f) (nI t) (nI (32 * v)) z0 f0 f1 f2 f3 a1 a2 a3 a4 a5 a6 a7 a8 a9 := by
  have e : a2 (nI (32 * v) + nI f).toNatClampNeg = a2 (32 * v + f) := vw_at (nI_add _ _) (by omega)
  refine ⟨pk_in (32 * v + f) 256 (by omega) (nI_add _ _), ?_⟩
  rw [e]
  refine br_c (fun g => vw_j45 hv hf ?_) (fun g => vw_j45 hv hf ?_)
  · rw [if_pos g] at hp
    exact hp
  · rw [if_neg g] at hp
    exact hp
theorem vw_judge {post : Int32 → Prop} {v f t : Nat} (hv : v ≤ 7) (hf : f < 32) (ht : t < 32) (hp : post (vw_J a2 a3 a4 v f t)) : wpX_judge post (f0, f1, f2, f3, a1, a2, a3, a4, a5, a6, a7, a8, a9) (nI v) (nI f) (nI t) := by
  have e : a4 (nI (32 * v) + nI t).toNatClampNeg = a4 (32 * v + t) := vw_at (nI_add _ _) (by omega)
  unfold vw_J at hp
  unfold wpX_judge
  refine nm_r (pk_mul 32 v) ⟨pk_in (32 * v + t) 256 (by omega) (nI_add _ _), ?_⟩
  rw [e]
  refine br_c (fun g => vw_j23 hv hf ?_) (fun g => vw_j23 hv hf ?_)
  · rw [if_pos g] at hp
    exact hp
  · rw [if_neg g] at hp
    exact hp
theorem vw_e77 {post : St2 → Prop} {v f t : Nat} (hv : v ≤ 7) (hf : f < 32)
    (H : post (f0, f1, f2, f3, a1, a2, vw_rg (vw_mx (nI t)) a3 (32 * v + (f + 1)) (32 * v + 32), a4, a5, a6, a7, a8, a9)) : ∃ n, wX_enter_77 post (nI t) (nI (32 * v)) f0 f1 f2 f3 n (nI (f + 1)) a1 a2 a3 a4 a5 a6 a7 a8 a9 :=
  pk_loop (fun n i s => wX_enter_77 post (nI t) (nI (32 * v)) f0 f1 f2 f3 n (nI i) a1 a2 s a4 a5 a6 a7 a8 a9) (fun i s => f + 1 ≤ i ∧ s = vw_rg (vw_mx (nI t)) a3 (32 * v + (f + 1)) (32 * v + i)) 32 (f + 1) a3 (by omega) ⟨by omega, by rw [vw_rg0]⟩
    (fun n s h => by
      obtain ⟨h1, rfl⟩ := h
      exact pk_le 32 32 (fun _ => H) (fun z => absurd z (by omega)))
    (fun n i s hi h hw => by
      obtain ⟨h1, h2⟩ := h
      have hc : (nI (32 * v) + nI i).toNatClampNeg = 32 * v + i := pk_cl _ (nI_add _ _)
      have hq : s (32 * v + i) = a3 (32 * v + i) := by rw [h2]; exact vw_rg_out (by omega)
      have hin : vp_in (nI (32 * v) + nI i) 256 := pk_in (32 * v + i) 256 (by omega) (nI_add _ _)
      have key : ∀ x, x = vw_mx (nI t) (a3 (32 * v + i)) → upd s (32 * v + i) x = vw_rg (vw_mx (nI t)) a3 (32 * v + (f + 1)) (32 * v + (i + 1)) := fun x hx => by rw [h2]; exact vw_rgS (by omega) hx
      refine pk_le 32 i (fun z => absurd z (by omega)) (fun _ => ⟨hin, ?_⟩)
      rw [hc, hq]
      exact br_c (fun g => ⟨hin, hin, nm_r (key _ (if_pos g).symm) (nm_r (nI_1 i) (hw _ ⟨by omega, rfl⟩))⟩) (fun g => ⟨hin, nm_r (key _ (if_neg g).symm) (nm_r (nI_1 i) (hw _ ⟨by omega, rfl⟩))⟩))
theorem vw_e22 {post : St2 → Prop} {v f t : Nat} (hv : v ≤ 7) (hf : f < 32)
    (H : post (f0, f1, f2, f3, a1, vw_rg (vw_mn (nI t)) a2 (32 * v) (32 * v + f), vw_rg (vw_mx (nI t)) a3 (32 * v + (f + 1)) (32 * v + 32), a4, a5, a6, a7, a8, a9)) : ∃ n, wX_enter_22 post (nI f) (nI t) (nI (32 * v)) f0 f1 f2 f3 n 0 a1 a2 a3 a4 a5 a6 a7 a8 a9 :=
  pk_loop (fun n i s => wX_enter_22 post (nI f) (nI t) (nI (32 * v)) f0 f1 f2 f3 n (nI i) a1 s a3 a4 a5 a6 a7 a8 a9) (fun i s => s = vw_rg (vw_mn (nI t)) a2 (32 * v) (32 * v + i)) f 0 a2 (by omega) (by rw [Nat.add_zero, vw_rg0])
    (fun n s h => by
      subst h
      exact pk_le f f (fun _ => nm_r (nI_1 f) (vw_e77 hv hf H)) (fun z => absurd z (by omega)))
    (fun n i s hi h2 hw => by
      have hc : (nI (32 * v) + nI i).toNatClampNeg = 32 * v + i := pk_cl _ (nI_add _ _)
      have hq : s (32 * v + i) = a2 (32 * v + i) := by rw [h2]; exact vw_rg_out (by omega)
      have hin : vp_in (nI (32 * v) + nI i) 256 := pk_in (32 * v + i) 256 (by omega) (nI_add _ _)
      have key : ∀ x, x = vw_mn (nI t) (a2 (32 * v + i)) → upd s (32 * v + i) x = vw_rg (vw_mn (nI t)) a2 (32 * v) (32 * v + (i + 1)) := fun x hx => by rw [h2]; exact vw_rgS (by omega) hx
      refine pk_le f i (fun z => absurd z (by omega)) (fun _ => ⟨hin, ?_⟩)
      rw [hc, hq]
      exact br_c (fun g => ⟨hin, hin, nm_r (key _ (if_pos g).symm) (nm_r (nI_1 i) (hw _ rfl))⟩) (fun g => ⟨hin, nm_r (key _ (if_neg g).symm) (nm_r (nI_1 i) (hw _ rfl))⟩))
theorem vw_enter {post : St2 → Prop} {v f t : Nat} (hv : v ≤ 7) (hf : f < 32) (ht : t < 32)
    (H : post (f0, f1, f2, f3, a1, vw_rg (vw_mn (nI t)) a2 (32 * v) (32 * v + f), vw_rg (vw_mx (nI t)) a3 (32 * v + (f + 1)) (32 * v + 32), upd a4 (32 * v + t) (a4 (32 * v + t) + 1), a5, a6, a7, a8, a9)) : wpX_enter post (f0, f1, f2, f3, a1, a2, a3, a4, a5, a6, a7, a8, a9) (nI v) (nI f) (nI t) := by
  have hc : (nI (32 * v) + nI t).toNatClampNeg = 32 * v + t := pk_cl _ (nI_add _ _)
  have hin : vp_in (nI (32 * v) + nI t) 256 := pk_in (32 * v + t) 256 (by omega) (nI_add _ _)
  unfold wpX_enter
  exact nm_r (pk_mul 32 v) ⟨hin, hin, nm_r (by rw [hc]) (vw_e22 hv hf H)⟩
/-- openLink's end: the place is found -/
theorem vw_open_end {post : Int32 → St2 → Prop} {n k m : Nat} {x1 x2 : Int32} (hk : k < 64)
    (hp : post (nI k) (f0, f1, nI (n + 1), f3, a1, a2, a3, a4, a5, upd a6 k x1, upd a7 k x2, upd a8 k 0, a9)) : wX_openLink_11 post x1 x2 f0 f1 (nI n) f3 (m + 1) (nI k) (nI 0) a1 a2 a3 a4 a5 a6 a7 a8 a9 := by
  have hc : (nI k).toNatClampNeg = k := nI_clamp (by omega)
  have hin : vp_in (nI k) 64 := pk_in k 64 hk
  exact pk_le 0 0 (fun _ => ⟨hin, nm_r (by rw [hc]) ⟨hin, nm_r (by rw [hc]) ⟨hin, nm_r (by rw [hc]) (nm_r (nI_1 n) hp)⟩⟩⟩) (fun z => absurd z (by omega))
theorem vw_open0 {post : Int32 → St2 → Prop} {x1 x2 : Int32}
    (hp : post (nI 0) (f0, f1, nI 1, f3, a1, a2, a3, a4, a5, upd a6 0 x1, upd a7 0 x2, upd a8 0 0, a9)) : wpX_openLink post (f0, f1, nI 0, f3, a1, a2, a3, a4, a5, a6, a7, a8, a9) x1 x2 :=
  ⟨1, vw_open_end (by omega) hp⟩
theorem vw_open1 {post : Int32 → St2 → Prop} {x1 x2 : Int32}
    (h1 : a7 0 ≤ x2 → post (nI 1) (f0, f1, nI 2, f3, a1, a2, a3, a4, a5, upd a6 1 x1, upd a7 1 x2, upd a8 1 0, a9))
    (h0 : ¬ a7 0 ≤ x2 → post (nI 0) (f0, f1, nI 2, f3, a1, a2, a3, a4, a5, upd (upd a6 1 (a6 0)) 0 x1, upd (upd a7 1 (a7 0)) 0 x2, upd (upd a8 1 (a8 0)) 0 0, a9)) : wpX_openLink post (f0, f1, nI 1, f3, a1, a2, a3, a4, a5, a6, a7, a8, a9) x1 x2 := by
  have e : nI 1 - 1 = nI 0 := nI_pred 0
  have em : nI 1 + (-1) = nI 0 := pk_m1 0
  have c0 : (nI 0).toNatClampNeg = 0 := nI_clamp (by omega)
  have c1 : (nI 1).toNatClampNeg = 1 := nI_clamp (by omega)
  have i0 : vp_in (nI 0) 64 := pk_in 0 64 (by omega)
  have i1 : vp_in (nI 1) 64 := pk_in 1 64 (by omega)
  refine ⟨2, ?_⟩
  refine pk_le 1 0 (fun z => absurd z (by omega)) (fun _ => br_t rfl ?_)
  rw [e, em, c0, c1]
  exact ⟨i0, br_c (fun g => nm_e (vw_open_end (by omega) (h1 g))) (fun g => ⟨i0, i1, nm_e ⟨i0, i1, nm_e ⟨i0, i1, nm_e (nm_e (nm_e (vw_open_end (by omega) (h0 g))))⟩⟩⟩)⟩
/-- how many of the lowest i bits of x are set -/
def vw_cnt (x : Int32) : Nat → Int32
  | 0 => 0
  | i + 1 => vw_cnt x i + (if ((x.toUInt32 >>> ((nI i).toUInt32 &&& Int32.toUInt32 31)).toInt32 &&& 1) = 0 then 0 else 1)
theorem vw_stakes {post : Int32 → Prop} {x : Int32} (h1 : ∀ j, j < 8 → a1 j = 1) (hp : post (vw_cnt x 8)) : wpX_stakes post (f0, f1, f2, f3, a1, a2, a3, a4, a5, a6, a7, a8, a9) x :=
  pk_loop (fun m i s => wX_stakes_4 post x f0 f1 f2 f3 a1 a2 a3 a4 a5 a6 a7 a8 a9 m s (nI i)) (fun i s => s = vw_cnt x i) 8 0 0 (by omega) rfl
    (fun m s h => by subst h; exact pk_le 8 8 (fun _ => hp) (fun z => absurd z (by omega)))
    (fun m i s hi h hw => by
      subst h
      refine pk_le 8 i (fun z => absurd z (by omega)) (fun _ => br_c (fun g => nm_e (nm_r (nI_1 i) (hw _ ?_))) (fun g => ⟨pk_in i 8 hi, nm_e (nm_r (nI_1 i) (hw _ ?_))⟩))
      · rw [vw_cnt, if_pos g]
      · rw [vw_cnt, if_neg g, nI_clamp (by omega), h1 i hi])
end
end
section
/-! vote -/
section
variable {post : Int32 → St2 → Prop} {f0 f1 f2 f3 : Int32} {a1 a2 a3 a4 a5 a6 a7 a8 a9 : Nat → Int32}
theorem vw_137 {v k h : Nat} {r : Int32} (hv : v ≤ 7) (hk : k < 64)
    (hp : post r (f0, nI (h + 1), f2, 0, a1, a2, a3, a4, upd a5 v (a5 v + 1), a6, a7, upd a8 k (a8 k ||| ((1 : Int32) <<< (nI v &&& 31))), a9)) : wX_vote_137 post (nI v) (nI k) r f0 (nI h) f2 f3 a1 a2 a3 a4 a5 a6 a7 a8 a9 := by
  have hc : (nI k).toNatClampNeg = k := nI_clamp (by omega)
  have hc2 : (nI v).toNatClampNeg = v := nI_clamp (by omega)
  have hin : vp_in (nI k) 64 := pk_in k 64 hk
  have hin2 : vp_in (nI v) 8 := pk_in v 8 (by omega)
  exact ⟨hin, hin, nm_r (by rw [hc]) (nm_r (nI_1 h) ⟨hin2, hin2, nm_r (by rw [hc2]) hp⟩)⟩
/-- the link stands already -/
theorem vw_113k {v s t k h : Nat} {r : Int32} (hv : v ≤ 7) (hs : s ≤ 126) (ht : t ≤ 126) (hk : k < 64)
    (hp : post r (f0, nI (h + 1), f2, 0, a1, vw_rg (vw_mn (nI (t / 4))) a2 (32 * v) (32 * v + s / 4), vw_rg (vw_mx (nI (t / 4))) a3 (32 * v + (s / 4 + 1)) (32 * v + 32), upd a4 (32 * v + t / 4) (a4 (32 * v + t / 4) + 1), upd a5 v (a5 v + 1), a6, a7, upd a8 k (a8 k ||| ((1 : Int32) <<< (nI v &&& 31))), a9)) :
    wX_vote_113 post (nI v) (nI s) (nI t) (nI k) r f0 (nI h) f2 f3 a1 a2 a3 a4 a5 a6 a7 a8 a9 := by
  unfold wX_vote_113
  rw [vw_shr hs, vw_shr ht]
  exact vw_enter hv (by omega) (by omega) (br_t (nI_pos' (by omega)) (vw_137 hv hk hp))
/-- no link stood -/
theorem vw_113n0 {v s t h : Nat} {r : Int32} (hv : v ≤ 7) (hs : s ≤ 126) (ht : t ≤ 126)
    (hp : post r (f0, nI (h + 1), nI 1, 0, a1, vw_rg (vw_mn (nI (t / 4))) a2 (32 * v) (32 * v + s / 4), vw_rg (vw_mx (nI (t / 4))) a3 (32 * v + (s / 4 + 1)) (32 * v + 32), upd a4 (32 * v + t / 4) (a4 (32 * v + t / 4) + 1), upd a5 v (a5 v + 1), upd a6 0 (nI s), upd a7 0 (nI t), upd (upd a8 0 0) 0 (upd a8 0 0 0 ||| ((1 : Int32) <<< (nI v &&& 31))), a9)) :
    wX_vote_113 post (nI v) (nI s) (nI t) (-1) r f0 (nI h) (nI 0) f3 a1 a2 a3 a4 a5 a6 a7 a8 a9 := by
  unfold wX_vote_113
  rw [vw_shr hs, vw_shr ht]
  exact vw_enter hv (by omega) (by omega) (br_f (by decide) (vw_open0 (vw_137 hv (by omega) hp)))
/-- one other link stood -/
theorem vw_113n1 {v s t h : Nat} {r : Int32} (hv : v ≤ 7) (hs : s ≤ 126) (ht : t ≤ 126)
    (h1 : post r (f0, nI (h + 1), nI 2, 0, a1, vw_rg (vw_mn (nI (t / 4))) a2 (32 * v) (32 * v + s / 4), vw_rg (vw_mx (nI (t / 4))) a3 (32 * v + (s / 4 + 1)) (32 * v + 32), upd a4 (32 * v + t / 4) (a4 (32 * v + t / 4) + 1), upd a5 v (a5 v + 1), upd a6 1 (nI s), upd a7 1 (nI t), upd (upd a8 1 0) 1 (upd a8 1 0 1 ||| ((1 : Int32) <<< (nI v &&& 31))), a9))
    (h0 : post r (f0, nI (h + 1), nI 2, 0, a1, vw_rg (vw_mn (nI (t / 4))) a2 (32 * v) (32 * v + s / 4), vw_rg (vw_mx (nI (t / 4))) a3 (32 * v + (s / 4 + 1)) (32 * v + 32), upd a4 (32 * v + t / 4) (a4 (32 * v + t / 4) + 1), upd a5 v (a5 v + 1), upd (upd a6 1 (a6 0)) 0 (nI s), upd (upd a7 1 (a7 0)) 0 (nI t), upd (upd (upd a8 1 (a8 0)) 0 0) 0 (upd (upd a8 1 (a8 0)) 0 0 0 ||| ((1 : Int32) <<< (nI v &&& 31))), a9)) :
    wX_vote_113 post (nI v) (nI s) (nI t) (-1) r f0 (nI h) (nI 1) f3 a1 a2 a3 a4 a5 a6 a7 a8 a9 := by
  unfold wX_vote_113
  rw [vw_shr hs, vw_shr ht]
  exact vw_enter hv (by omega) (by omega) (br_f (by decide) (vw_open1 (fun _ => vw_137 hv (by omega) h1) (fun _ => vw_137 hv (by omega) h0)))
theorem vw_64 {v s t h : Nat} {x4 : Int32} (hv : v ≤ 7) (hs : s ≤ 126) (ht : t ≤ 126) (hh : h < 64)
    (H : wX_vote_113 post (nI v) (nI s) (nI t) x4 (vw_J a2 a3 a4 v (s / 4) (t / 4)) (if vw_J a2 a3 a4 v (s / 4) (t / 4) = 0 then f0 else f0 ||| ((1 : Int32) <<< (nI v &&& 31))) (nI h) f2 f3 a1 a2 a3 a4 a5 a6 a7 a8 a9) :
    wX_vote_64 post (nI v) (nI s) (nI t) x4 0 f0 (nI h) f2 f3 a1 a2 a3 a4 a5 a6 a7 a8 a9 := by
  unfold wX_vote_64
  refine br_t rfl (pk_lt h 64 (fun _ => ?_) (fun z => absurd z (by omega)))
  rw [vw_shr hs, vw_shr ht]
  refine vw_judge hv (by omega) (by omega) (br_c (fun g => ?_) (fun g => nm_e ?_))
  · rw [if_pos g] at H
    exact H
  · rw [if_neg g] at H
    exact H
theorem vw_vote {v s t h n : Nat} (hv : v ≤ 7) (hs : s ≤ 126) (hs3 : s % 4 ≠ 3) (ht : t ≤ 126) (ht3 : t % 4 ≠ 3) (hst : s / 4 < t / 4) (hh : h < 64) (hn : n ≤ 64)
    (Hr : ∀ k, k < n → a6 k = nI s → a7 k = nI t → (∀ j, j < k → ¬ (a6 j = nI s ∧ a7 j = nI t)) → ¬ ((((a8 k).toUInt32 >>> ((nI v).toUInt32 &&& Int32.toUInt32 31)).toInt32) &&& 1) = 0 → post (-2) (f0, nI h, nI n, f3, a1, a2, a3, a4, a5, a6, a7, a8, a9))
    (Hk : ∀ k, k < n → a6 k = nI s → a7 k = nI t → (∀ j, j < k → ¬ (a6 j = nI s ∧ a7 j = nI t)) → ((((a8 k).toUInt32 >>> ((nI v).toUInt32 &&& Int32.toUInt32 31)).toInt32) &&& 1) = 0 →
      wX_vote_113 post (nI v) (nI s) (nI t) (nI k) (vw_J a2 a3 a4 v (s / 4) (t / 4)) (if vw_J a2 a3 a4 v (s / 4) (t / 4) = 0 then f0 else f0 ||| ((1 : Int32) <<< (nI v &&& 31))) (nI h) (nI n) f3 a1 a2 a3 a4 a5 a6 a7 a8 a9)
    (Hn : (∀ j, j < n → ¬ (a6 j = nI s ∧ a7 j = nI t)) →
      wX_vote_113 post (nI v) (nI s) (nI t) (-1) (vw_J a2 a3 a4 v (s / 4) (t / 4)) (if vw_J a2 a3 a4 v (s / 4) (t / 4) = 0 then f0 else f0 ||| ((1 : Int32) <<< (nI v &&& 31))) (nI h) (nI n) f3 a1 a2 a3 a4 a5 a6 a7 a8 a9) :
    wpX_vote post (f0, nI h, nI n, f3, a1, a2, a3, a4, a5, a6, a7, a8, a9) (nI v) (nI s) (nI t) := by
  unfold wpX_vote
  refine vw_val hv (br_f (by decide) (vw_cp hs hs3 (br_f (by decide) (vw_cp ht ht3 (br_f (by decide) ?_)))))
  rw [vw_shr hs, vw_shr ht]
  refine pk_lt (s / 4) (t / 4) (fun _ => vw_linkOf hn (fun k hk e6 e7 hf => ?_) (fun hf => ?_)) (fun z => absurd z (by omega))
  · refine br_f (nI_pos (by omega)) ⟨pk_in k 64 (by omega), ?_⟩
    rw [nI_clamp (by omega)]
    exact br_c (fun g => vw_64 hv hs ht hh (Hk k hk e6 e7 hf g)) (fun g => br_f (by decide) (Hr k hk e6 e7 hf g))
  · exact br_t (by decide) (vw_64 hv hs ht hh (Hn hf))
theorem vw_offender {post : Int32 → Prop} {v : Nat} (hv : v ≤ 7) (hp : post ((f0.toUInt32 >>> ((nI v).toUInt32 &&& Int32.toUInt32 31)).toInt32 &&& 1)) : wpX_offender post (f0, f1, f2, f3, a1, a2, a3, a4, a5, a6, a7, a8, a9) (nI v) := by
  unfold wpX_offender
  exact vw_val hv (br_f (by decide) hp)
theorem vw_offended {post : Int32 → Prop} (h1 : ∀ j, j < 8 → a1 j = 1) (hp : post (vw_cnt f0 8)) : wpX_offended post (f0, f1, f2, f3, a1, a2, a3, a4, a5, a6, a7, a8, a9) := by
  unfold wpX_offended
  exact vw_stakes h1 hp
/-- the support of the first link of (s, t), at k -/
theorem vw_support {post : Int32 → Prop} {n k : Nat} {x1 x2 : Int32} (hn : n ≤ 64) (hk : k < n) (e6 : a6 k = x1) (e7 : a7 k = x2) (hf : ∀ j, j < k → ¬ (a6 j = x1 ∧ a7 j = x2)) (h1 : ∀ j, j < 8 → a1 j = 1) (hp : post (vw_cnt (a8 k) 8)) :
    wpX_support post (f0, f1, nI n, f3, a1, a2, a3, a4, a5, a6, a7, a8, a9) x1 x2 := by
  unfold wpX_support
  refine vw_linkOf hn (fun k' hk' g6 g7 hg => ?_) (fun hg => absurd ⟨e6, e7⟩ (hg k hk))
  have e : k' = k := by
    rcases Nat.lt_trichotomy k' k with z | z | z
    · exact absurd ⟨g6, g7⟩ (hf k' z)
    · exact z
    · exact absurd ⟨e6, e7⟩ (hg k z)
  subst e
  refine br_t (nI_pos' (by omega)) ⟨pk_in k' 64 (by omega), ?_⟩
  rw [nI_clamp (by omega)]
  exact vw_stakes h1 hp
end
end
section
/-! the plain law: what the tables answer -/
theorem vw_m1 {x : Nat} (h : x < 2 ^ 31) : (-1 : Int32) ≤ nI x := by
  rw [Int32.le_iff_toInt_le, nI_toInt h]
  have e : (-1 : Int32).toInt = -1 := by decide
  omega
theorem vw_m1' {x : Nat} (h : x < 2 ^ 31) : ¬ nI x ≤ (-1 : Int32) := by
  rw [Int32.le_iff_toInt_le, nI_toInt h]
  have e : (-1 : Int32).toInt = -1 := by decide
  omega
theorem vw_J0 {a2 a3 a4 : Nat → Int32} {v f t : Nat} (ht : t < 32) (h4 : a4 (32 * v + t) = 0) (h2 : a2 (32 * v + f) = 32) (h3 : a3 (32 * v + f) = -1) : vw_J a2 a3 a4 v f t = 0 := by
  unfold vw_J
  rw [h4, h2, h3, if_pos (by decide), if_pos (show nI t ≤ 32 from nI_le (b := 32) (by omega) (by decide)), if_pos (vw_m1 (by omega))]
  decide
/-- what the law says is due -/
def vw_D (ea eb ec ed : Nat) : Int32 := (if eb = ed then 1 else 0) + (if ec < ea ∧ eb < ed then 2 else 0) + (if ea < ec ∧ ed < eb then 4 else 0)
theorem vw_if {p : Prop} [Decidable p] {x : Int32} : (if p then x else 0) = x ∨ (if p then x else 0) = 0 := by
  by_cases h : p
  · exact Or.inl (if_pos h)
  · exact Or.inr (if_neg h)
theorem vw_D0 {ea eb ec ed : Nat} : vw_D ea eb ec ed ≤ 0 ↔ vw_D ea eb ec ed = 0 := by
  unfold vw_D
  rcases vw_if (p := eb = ed) (x := 1) with h1 | h1 <;> rcases vw_if (p := ec < ea ∧ eb < ed) (x := 2) with h2 | h2 <;> rcases vw_if (p := ea < ec ∧ ed < eb) (x := 4) with h3 | h3 <;> rw [h1, h2, h3] <;> decide
/-- the picture behind the first vote, of validator 6 from a to b -/
def vw_P (a b : Nat) (a1 a2 a3 a4 a6 a7 a8 : Nat → Int32) : Prop :=
  (∀ j, j < 8 → a1 j = 1) ∧ (∀ j, j < 32 → a4 (32 * 5 + j) = 0 ∧ a2 (32 * 5 + j) = 32 ∧ a3 (32 * 5 + j) = -1) ∧
  (∀ e, e < 32 → a4 (32 * 6 + e) = if e = b / 4 then 1 else 0) ∧ (∀ e, e < 32 → a2 (32 * 6 + e) = if e < a / 4 then nI (b / 4) else 32) ∧ (∀ e, e < 32 → a3 (32 * 6 + e) = if a / 4 < e then nI (b / 4) else -1) ∧
  a6 0 = nI a ∧ a7 0 = nI b ∧ a8 0 = 64
theorem vw_i2_at {j : Nat} (h : j < 256) : vw_i2 j = 32 := vw_rg_in (by omega) h
theorem vw_i3_at {j : Nat} (h : j < 256) : vw_i3 j = -1 := vw_rg_in (by omega) h
theorem vw_P1 {a b : Nat} (ha : a ≤ 126) (hb : b ≤ 126) : vw_P a b vw_i1 (vw_rg (vw_mn (nI (b / 4))) vw_i2 (32 * 6) (32 * 6 + a / 4)) (vw_rg (vw_mx (nI (b / 4))) vw_i3 (32 * 6 + (a / 4 + 1)) (32 * 6 + 32)) (upd vw_z (32 * 6 + b / 4) (vw_z (32 * 6 + b / 4) + 1)) (upd vw_z 0 (nI a)) (upd vw_z 0 (nI b)) (upd (upd vw_z 0 0) 0 (upd vw_z 0 0 0 ||| ((1 : Int32) <<< (nI 6 &&& 31)))) := by
  refine ⟨fun j hj => vw_rg_in (by omega) hj, fun j hj => ⟨?_, ?_, ?_⟩, fun e he => ?_, fun e he => ?_, fun e he => ?_, pk_us, pk_us, ?_⟩
  · rw [pk_un (by omega)]
    rfl
  · rw [vw_rg_out (by omega), vw_i2_at (by omega)]
  · rw [vw_rg_out (by omega), vw_i3_at (by omega)]
  · by_cases z : e = b / 4
    · rw [if_pos z, z, pk_us]
      show (0 : Int32) + 1 = 1
      decide
    · rw [if_neg z, pk_un (by omega)]
      rfl
  · by_cases z : e < a / 4
    · rw [if_pos z, vw_rg_in (by omega) (by omega), vw_i2_at (by omega)]
      exact if_neg (nI_ge (b := 32) (by omega) (by decide))
    · rw [if_neg z, vw_rg_out (by omega), vw_i2_at (by omega)]
  · by_cases z : a / 4 < e
    · rw [if_pos z, vw_rg_in (by omega) (by omega), vw_i3_at (by omega)]
      exact if_neg (vw_m1' (by omega))
    · rw [if_neg z, vw_rg_out (by omega), vw_i3_at (by omega)]
  · rw [pk_us, pk_us]
    decide
theorem vw_JD {a b c d : Nat} {a1 a2 a3 a4 a6 a7 a8 : Nat → Int32} (P : vw_P a b a1 a2 a3 a4 a6 a7 a8) (hb : b ≤ 126) (hc : c ≤ 126) (hd : d ≤ 126) : vw_J a2 a3 a4 6 (c / 4) (d / 4) = vw_D (a / 4) (b / 4) (c / 4) (d / 4) := by
  obtain ⟨_, _, p4, p2, p3, _, _, _⟩ := P
  have q1 : (if (if d / 4 = b / 4 then (1 : Int32) else 0) ≤ 0 then (0 : Int32) else 1) = if b / 4 = d / 4 then 1 else 0 := by
    by_cases e : d / 4 = b / 4
    · rw [if_pos e, if_neg (by decide), if_pos e.symm]
    · rw [if_neg e, if_pos (by decide), if_neg (fun z => e z.symm)]
  have q2 : (if nI (d / 4) ≤ (if c / 4 < a / 4 then nI (b / 4) else 32) then (0 : Int32) else 2) = if c / 4 < a / 4 ∧ b / 4 < d / 4 then 2 else 0 := by
    by_cases e : c / 4 < a / 4
    · rw [if_pos e]
      by_cases e2 : b / 4 < d / 4
      · rw [if_neg (nI_ge e2 (by omega)), if_pos ⟨e, e2⟩]
      · rw [if_pos (nI_le (by omega) (by omega)), if_neg (fun z => e2 z.2)]
    · rw [if_neg e, if_pos (show nI (d / 4) ≤ 32 from nI_le (b := 32) (by omega) (by decide)), if_neg (fun z => e z.1)]
  have q3 : (if (if a / 4 < c / 4 then nI (b / 4) else -1) ≤ nI (d / 4) then (0 : Int32) else 4) = if a / 4 < c / 4 ∧ d / 4 < b / 4 then 4 else 0 := by
    by_cases e : a / 4 < c / 4
    · rw [if_pos e]
      by_cases e2 : d / 4 < b / 4
      · rw [if_neg (nI_ge e2 (by omega)), if_pos ⟨e, e2⟩]
      · rw [if_pos (nI_le (by omega) (by omega)), if_neg (fun z => e2 z.2)]
    · rw [if_neg e, if_pos (vw_m1 (by omega)), if_neg (fun z => e z.1)]
  unfold vw_J vw_D
  rw [p4 (d / 4) (by omega), p2 (c / 4) (by omega), p3 (c / 4) (by omega), q1, q2, q3]
/-- the picture behind the second vote -/
def vw_T (h n c d : Nat) (a1 a2 a3 a4 a6 a7 a8 : Nat → Int32) : Prop :=
  h < 64 ∧ n ≤ 2 ∧ (∀ k, k < n → a8 k = 64) ∧ (∃ k, k < n ∧ a6 k = nI c ∧ a7 k = nI d) ∧
  (∀ j, j < 32 → a4 (32 * 5 + j) = 0 ∧ a2 (32 * 5 + j) = 32 ∧ a3 (32 * 5 + j) = -1) ∧ (∀ j, j < 8 → a1 j = 1)
theorem vw_T1 {a b c d : Nat} {a1 a2 a3 a4 a6 a7 a8 : Nat → Int32} (P : vw_P a b a1 a2 a3 a4 a6 a7 a8) (e : a = c) (e2 : b = d) : vw_T 1 1 c d a1 a2 a3 a4 a6 a7 a8 := by
  obtain ⟨p1, p5, _, _, _, p6, p7, p8⟩ := P
  subst e e2
  refine ⟨by decide, by decide, fun k hk => ?_, ⟨0, by decide, p6, p7⟩, p5, p1⟩
  obtain rfl : k = 0 := by omega
  exact p8
theorem vw_T2 {a b c d : Nat} {a1 a2 a3 a4 a6 a7 a8 b6 b7 b8 : Nat → Int32} (P : vw_P a b a1 a2 a3 a4 a6 a7 a8) (h0 : b8 0 = 64) (h1 : b8 1 = 64) (hx : ∃ k, k < 2 ∧ b6 k = nI c ∧ b7 k = nI d) :
    vw_T 2 2 c d a1 (vw_rg (vw_mn (nI (d / 4))) a2 (32 * 6) (32 * 6 + c / 4)) (vw_rg (vw_mx (nI (d / 4))) a3 (32 * 6 + (c / 4 + 1)) (32 * 6 + 32)) (upd a4 (32 * 6 + d / 4) (a4 (32 * 6 + d / 4) + 1)) b6 b7 b8 := by
  obtain ⟨p1, p5, _, _, _, _, _, _⟩ := P
  refine ⟨by decide, by decide, fun k hk => ?_, hx, fun j hj => ⟨?_, ?_, ?_⟩, p1⟩
  · rcases (show k = 0 ∨ k = 1 by omega) with rfl | rfl
    · exact h0
    · exact h1
  · rw [pk_un (by omega)]
    exact (p5 j hj).1
  · rw [vw_rg_out (by omega)]
    exact (p5 j hj).2.1
  · rw [vw_rg_out (by omega)]
    exact (p5 j hj).2.2
end
section
/-! the law -/
section
variable {post : Int32 → St0 → Prop} {mc ms kc ks : Nat} {f0 f1 f2 f3 : Int32} {a1 a2 a3 a4 a5 a6 a7 a8 a9 : Nat → Int32}
theorem vw_282 {h n c d : Nat} {z0 z1 : Int32} (hp : post 1 ()) (hc : c ≤ 126) (hc3 : c % 4 ≠ 3) (hd : d ≤ 126) (hd3 : d % 4 ≠ 3) (hcd : c / 4 < d / 4) (T : vw_T h n c d a1 a2 a3 a4 a6 a7 a8) (hz : z1 = z0) (ho : f0 = 0 ∨ f0 = 64) :
    wL_lawOf_282 post mc ms (nI c) (nI d) z0 z1 kc ks f0 (nI h) (nI n) f3 a1 a2 a3 a4 a5 a6 a7 a8 a9 := by
  obtain ⟨hh, hn, t8, ⟨q, hq, q6, q7⟩, t5, t1⟩ := T
  unfold wL_lawOf_282
  refine br_t hz (vw_vote (v := 5) (by omega) hc hc3 hd hd3 hcd hh (by omega) (fun k hk e6 e7 hf g => ?_) (fun k hk e6 e7 hf g => ?_) (fun hf => absurd ⟨q6, q7⟩ (hf q hq)))
  · rw [t8 k hk] at g
    exact absurd (by decide) g
  · have J : vw_J a2 a3 a4 5 (c / 4) (d / 4) = 0 := vw_J0 (by omega) (t5 (d / 4) (by omega)).1 (t5 (c / 4) (by omega)).2.1 (t5 (c / 4) (by omega)).2.2
    rw [J, if_pos rfl]
    refine vw_113k (by omega) hc hd (by omega) (br_t rfl (vw_offender (v := 5) (by omega) (br_t ?_ (vw_support (by omega) hk e6 e7 hf t1 (br_t ?_ hp)))))
    · rcases ho with rfl | rfl <;> decide
    · rw [pk_us, t8 k hk]
      decide
theorem vw_245 {h n c d : Nat} {z : Int32} (hp : post 1 ()) (hc : c ≤ 126) (hc3 : c % 4 ≠ 3) (hd : d ≤ 126) (hd3 : d % 4 ≠ 3) (hcd : c / 4 < d / 4) (T : vw_T h n c d a1 a2 a3 a4 a6 a7 a8) (hz : (z = 0 ∧ f0 = 0) ∨ (z = 1 ∧ f0 = 64)) :
    wL_lawOf_245 post mc ms (nI c) (nI d) z kc ks f0 (nI h) (nI n) f3 a1 a2 a3 a4 a5 a6 a7 a8 a9 := by
  have t1 := T.2.2.2.2.2
  unfold wL_lawOf_245
  rcases hz with ⟨rfl, rfl⟩ | ⟨rfl, rfl⟩
  · exact vw_offender (v := 6) (by omega) (br_t rfl (br_t (by decide) (vw_offended t1 (br_t rfl (vw_282 hp hc hc3 hd hd3 hcd T (by decide) (Or.inl rfl))))))
  · exact vw_offender (v := 6) (by omega) (br_f (by decide) (br_t (by decide) (vw_offended t1 (br_f (by decide) (vw_282 hp hc hc3 hd hd3 hcd T (by decide) (Or.inr rfl))))))
theorem vw_199 {a b c d : Nat} {x9 w0 w1 : Int32} (hp : post 1 ()) (ha : a ≤ 126) (hb : b ≤ 126) (hc : c ≤ 126) (hc3 : c % 4 ≠ 3) (hd : d ≤ 126) (hd3 : d % 4 ≠ 3) (hcd : c / 4 < d / 4) (P : vw_P a b a1 a2 a3 a4 a6 a7 a8)
    (hx : (x9 = 1 ∧ a = c ∧ b = d) ∨ (x9 = 0 ∧ ¬ (a = c ∧ b = d))) (hw : w1 + w0 = vw_D (a / 4) (b / 4) (c / 4) (d / 4)) :
    wL_lawOf_199 post mc ms (nI c) (nI d) x9 w0 w1 kc ks 0 (nI 1) (nI 1) f3 a1 a2 a3 a4 a5 a6 a7 a8 a9 := by
  have p6 : a6 0 = nI a := P.2.2.2.2.2.1
  have p7 : a7 0 = nI b := P.2.2.2.2.2.2.1
  have p8 : a8 0 = 64 := P.2.2.2.2.2.2.2
  unfold wL_lawOf_199
  refine nm_r hw ?_
  rcases hx with ⟨rfl, e, e2⟩ | ⟨rfl, ne⟩
  · refine vw_vote (v := 6) (by omega) hc hc3 hd hd3 hcd (by omega) (by omega) (fun k hk e6 e7 hf g => ?_) (fun k hk e6 e7 hf g => ?_) (fun hf => absurd ⟨p6.trans (by rw [e]), p7.trans (by rw [e2])⟩ (hf 0 (by omega)))
    · exact br_f (by decide) (br_t rfl (br_f (by decide) (vw_245 hp hc hc3 hd hd3 hcd (vw_T1 P e e2) (Or.inl ⟨rfl, rfl⟩))))
    · obtain rfl : k = 0 := by omega
      rw [p8] at g
      exact absurd g (by decide)
  · have no : ∀ k, k < 1 → a6 k = nI c → a7 k = nI d → False := by
      intro k hk e6 e7
      obtain rfl : k = 0 := by omega
      exact ne ⟨(nI_eq (by omega) (by omega)).mp (p6.symm.trans e6), (nI_eq (by omega) (by omega)).mp (p7.symm.trans e7)⟩
    refine vw_vote (v := 6) (by omega) hc hc3 hd hd3 hcd (by omega) (by omega) (fun k hk e6 e7 hf g => absurd e7 (no k hk e6)) (fun k hk e6 e7 hf g => absurd e7 (no k hk e6)) (fun hf => ?_)
    rw [vw_JD P hb hc hd]
    have fin : ∀ (b5 b6 b7 b8 : Nat → Int32), b8 0 = 64 → b8 1 = 64 → (∃ k, k < 2 ∧ b6 k = nI c ∧ b7 k = nI d) →
        wL_lawOf_225 post mc ms (nI c) (nI d) 0 (vw_D (a / 4) (b / 4) (c / 4) (d / 4)) (vw_D (a / 4) (b / 4) (c / 4) (d / 4)) (vw_D (a / 4) (b / 4) (c / 4) (d / 4)) kc ks (if vw_D (a / 4) (b / 4) (c / 4) (d / 4) = 0 then 0 else 0 ||| ((1 : Int32) <<< (nI 6 &&& 31))) (nI 2) (nI 2) 0 a1 (vw_rg (vw_mn (nI (d / 4))) a2 (32 * 6) (32 * 6 + c / 4)) (vw_rg (vw_mx (nI (d / 4))) a3 (32 * 6 + (c / 4 + 1)) (32 * 6 + 32)) (upd a4 (32 * 6 + d / 4) (a4 (32 * 6 + d / 4) + 1)) b5 b6 b7 b8 a9 := by
      intro b5 b6 b7 b8 h0 h1 hx
      have T := vw_T2 P h0 h1 hx
      refine br_t rfl (br_t rfl (br_c (fun g => ?_) (fun g => ?_)))
      · exact vw_245 hp hc hc3 hd hd3 hcd T (Or.inl ⟨rfl, if_pos (vw_D0.mp g)⟩)
      · exact vw_245 hp hc hc3 hd hd3 hcd T (Or.inr ⟨rfl, (if_neg (fun z => g (vw_D0.mpr z))).trans (by decide)⟩)
    refine vw_113n1 (by omega) hc hd (br_t rfl (fin _ _ _ _ ?_ ?_ ⟨1, by omega, pk_us, pk_us⟩)) (br_t rfl (fin _ _ _ _ ?_ ?_ ⟨0, by omega, pk_us, pk_us⟩))
    · rw [pk_un (by decide), pk_un (by decide)]
      exact p8
    · rw [pk_us, pk_us]
      decide
    · rw [pk_us, pk_us]
      decide
    · rw [pk_un (by decide), pk_un (by decide), pk_us]
      exact p8
theorem vw_171 {a b c d : Nat} {x9 z0 z1 : Int32} (ha : a ≤ 126) (hb : b ≤ 126) (hc : c ≤ 126) (hd : d ≤ 126)
    (H : ∀ w0 w1 : Int32, w1 + w0 = z1 + z0 + (if a / 4 < c / 4 ∧ d / 4 < b / 4 then 4 else 0) → wL_lawOf_199 post mc ms (nI c) (nI d) x9 w0 w1 kc ks f0 f1 f2 f3 a1 a2 a3 a4 a5 a6 a7 a8 a9) :
    wL_lawOf_171 post mc ms (nI a) (nI c) (nI b) (nI d) x9 z0 z1 kc ks f0 f1 f2 f3 a1 a2 a3 a4 a5 a6 a7 a8 a9 := by
  unfold wL_lawOf_171
  rw [vw_shr ha, vw_shr hb, vw_shr hc, vw_shr hd]
  exact pk_le (c / 4) (a / 4) (fun z => H 0 (z1 + z0) (by rw [if_neg (by omega)])) (fun z => pk_le (b / 4) (d / 4) (fun y => H 0 (z1 + z0) (by rw [if_neg (by omega)])) (fun y => H 4 (z1 + z0) (by rw [if_pos ⟨z, y⟩])))
theorem vw_144 {a b c d : Nat} {x9 z0 : Int32} (ha : a ≤ 126) (hb : b ≤ 126) (hc : c ≤ 126) (hd : d ≤ 126)
    (H : ∀ w0 w1 : Int32, w1 + w0 = z0 + (if c / 4 < a / 4 ∧ b / 4 < d / 4 then 2 else 0) + (if a / 4 < c / 4 ∧ d / 4 < b / 4 then 4 else 0) → wL_lawOf_199 post mc ms (nI c) (nI d) x9 w0 w1 kc ks f0 f1 f2 f3 a1 a2 a3 a4 a5 a6 a7 a8 a9) :
    wL_lawOf_144 post mc ms (nI a) (nI c) (nI b) (nI d) x9 z0 kc ks f0 f1 f2 f3 a1 a2 a3 a4 a5 a6 a7 a8 a9 := by
  unfold wL_lawOf_144
  rw [vw_shr ha, vw_shr hb, vw_shr hc, vw_shr hd]
  refine pk_le (a / 4) (c / 4) (fun z => ?_) (fun z => pk_le (d / 4) (b / 4) (fun y => ?_) (fun y => ?_))
  · rw [if_neg (show ¬ (c / 4 < a / 4 ∧ b / 4 < d / 4) by omega)] at H
    exact vw_171 ha hb hc hd H
  · rw [if_neg (show ¬ (c / 4 < a / 4 ∧ b / 4 < d / 4) by omega)] at H
    exact vw_171 ha hb hc hd H
  · rw [if_pos (show c / 4 < a / 4 ∧ b / 4 < d / 4 from ⟨z, y⟩)] at H
    exact vw_171 ha hb hc hd H
theorem vw_126 {a b c d : Nat} {x9 : Int32} (hp : post 1 ()) (ha : a ≤ 126) (hb : b ≤ 126) (hc : c ≤ 126) (hc3 : c % 4 ≠ 3) (hd : d ≤ 126) (hd3 : d % 4 ≠ 3) (hcd : c / 4 < d / 4) (P : vw_P a b a1 a2 a3 a4 a6 a7 a8)
    (hx : (x9 = 1 ∧ a = c ∧ b = d) ∨ (x9 = 0 ∧ ¬ (a = c ∧ b = d))) :
    wL_lawOf_126 post mc ms (nI a) (nI c) (nI b) (nI d) x9 kc ks 0 (nI 1) (nI 1) f3 a1 a2 a3 a4 a5 a6 a7 a8 a9 := by
  have H : ∀ w0 w1 : Int32, w1 + w0 = vw_D (a / 4) (b / 4) (c / 4) (d / 4) → wL_lawOf_199 post mc ms (nI c) (nI d) x9 w0 w1 kc ks 0 (nI 1) (nI 1) f3 a1 a2 a3 a4 a5 a6 a7 a8 a9 := fun w0 w1 hw => vw_199 hp ha hb hc hc3 hd hd3 hcd P hx hw
  unfold vw_D at H
  unfold wL_lawOf_126
  rw [vw_shr hb, vw_shr hd]
  refine pk_eq (b / 4) (d / 4) (fun z => ?_) (fun z => ?_)
  · rw [if_pos z] at H
    exact vw_144 ha hb hc hd H
  · rw [if_neg z] at H
    exact vw_144 ha hb hc hd H
theorem vw_lawOf {p0 p1 p2 p3 : Int32} (hp : post 1 ()) (hm : 10 ≤ mc) (hs : 1117 ≤ ms) : wpL_lawOf post mc ms () p0 p1 p2 p3 := by
  refine ⟨by omega, by omega, 9, 1104, by omega, by omega, vw_init (by omega) (by omega) (vw_point (fun a ha ha3 => vw_point (fun c hc hc3 => ?_)))⟩
  obtain ⟨n1, b, hb, hb3, hab, e1⟩ := vw_far ha p1
  obtain ⟨n2, d, hd, hd3, hcd, e2⟩ := vw_far hc p3
  refine ⟨n1, by decide, nm_r e1 ⟨n2, by decide, nm_r e2 ?_⟩⟩
  refine vw_vote (v := 6) (s := a) (t := b) (h := 0) (n := 0) (by omega) (by omega) ha3 hb hb3 hab (by omega) (by omega) (fun k hk => absurd hk (by omega)) (fun k hk => absurd hk (by omega)) (fun _ => ?_)
  have J : vw_J vw_i2 vw_i3 vw_z 6 (a / 4) (b / 4) = 0 := vw_J0 (by omega) rfl (vw_i2_at (by omega)) (vw_i3_at (by omega))
  rw [J, if_pos rfl]
  have P := vw_P1 (a := a) (b := b) (by omega) hb
  refine vw_113n0 (by omega) (by omega) hb (br_t rfl (pk_eq a c (fun e => pk_eq b d (fun e2 => ?_) (fun ne => ?_)) (fun ne => ?_)))
  · exact vw_126 hp (by omega) hb (by omega) hc3 hd hd3 hcd P (Or.inl ⟨rfl, e, e2⟩)
  · exact vw_126 hp (by omega) hb (by omega) hc3 hd hd3 hcd P (Or.inr ⟨rfl, fun z => ne z.2⟩)
  · exact vw_126 hp (by omega) hb (by omega) hc3 hd hd3 hcd P (Or.inr ⟨rfl, fun z => ne z.1⟩)
end
theorem vw_cell {post : Int32 → Prop} {L : Nat} {xs : Nat → Int32} {u : St0} {p : Int32} (k : Nat) (hk : p = nI k) (hk2 : k ≤ 3) (hL : L ≤ 4) (H : ∀ r, post r) : wpL_cellAt post L xs u p := by
  subst hk
  exact pk_le L k (fun _ => H _) (fun z => ⟨pk_in k L z, H _⟩)
theorem i_vc (xs : Nat → Int32) (L : Nat) (hL : L ≤ 4) : wpL_law (fun r => r = 1) L xs :=
  vw_cell 0 rfl (by omega) hL (fun _ => vw_cell 1 rfl (by omega) hL (fun _ => vw_cell 2 rfl (by omega) hL (fun _ => vw_cell 3 rfl (by omega) hL (fun _ => ⟨530, 8480, by omega, by omega, vw_lawOf rfl (by omega) (by omega)⟩))))
end
