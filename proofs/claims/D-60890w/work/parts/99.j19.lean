/-! J19: all that holds with a new machine -/
section J19
variable {nC nS n mC mS : Nat} {A A' : AH} {V V' V'' : CW} {E E' E'' : EL} {ad : AA} {M M' N : MS} {P : PP} {T Bk Bk' b1 b2 n0 n1 n2 w x al hl sl m ul ca L S B I U G : Nat} {X : Nat → Prop} {k0 k1 : Option Nat} {p12 : Int32} {us gs : List Nat}
theorem sh_new (g : GZ nC nS A V E M P B b1 b2 n0 n1 n2) (x5 : xr V 105 (P 0) 0 = some m) (ma : MA V P (xr V 100 (P 0) 0) (xr V 101 (P 0) 0) m ul L S B I p12) (x9 : xr V 709 m 0 = some ca) (o11 : OW V 7 11 m L) (hus : lt V E 7 8 m = us) (hgs : lt V E 9 0 ca = gs) (hu : us.length = U ∧ (∀ a, a ∈ us → UN V a S) ∧ inj us) (hca : kdV V ca = 10) (hg : gs.length = G ∧ (∀ a, a ∈ gs → GN V a) ∧ inj gs) (hL : L ≤ 32) (hS : S ≤ 16) (hU : U ≤ 8) (hG : G ≤ 8) (mn : MN N L S U B G I p12) : SH V E (adM P m ca us gs) N (Pm P m ca L S U G) := by
  obtain ⟨_, ⟨_, _, sj⟩, ⟨k0, k2, k3⟩, ⟨r2, r3, r4⟩, _, ⟨S1, S2, co⟩, _, pn, _⟩ := g
  have no : ∀ {c k a : Nat}, c = 12 ∨ c = 13 ∨ c = 14 → adM P m ca us gs c k = some a → False := fun {c k a} hc h => by
    rcases adM_inv h with z | z | z <;> omega
  have nn : ∀ {c : Nat} (k : Nat), c = 12 ∨ c = 13 ∨ c = 14 → adM P m ca us gs c k = none := fun {c} k hc => by
    cases e : adM P m ca us gs c k with
    | none => rfl
    | some a => exact (no hc e).elim
  refine ⟨⟨fun c k k' a hc h h' => ?_, fun c k a hc h => ?_⟩, fun c k a h => ?_, ⟨⟨rfl, rfl, rfl, rfl, rfl, rfl⟩, x5, r2, r3, r4, ma.2.2.2.1, ma.2.2.2.2.1, ma.2.2.2.2.2.1, ma.2.2.2.2.2.2.1, x9, ma.2.2.2.2.2.2.2, o11⟩, ⟨?_, fun u => ?_, fun u a h => ?_, ?_, fun q => ?_⟩, ⟨fun s w h => (no (by omega) h).elim, fun s hs _ => mn.2.2.2.2 s hs⟩, ⟨fun s w h => (no (by omega) h).elim, fun t l h => (no (by omega) h).elim⟩, fun bk b h => (no (by omega) h).elim, fun k hk => ?_, ⟨hL, hS, hU, hG, (by decide : (1 : Nat) ≤ 16)⟩, ⟨mn.1.1, mn.1.2.1⟩, sj⟩
  · rcases adM_inv h with z | z | z <;> rcases adM_inv h' with z' | z' | z'
    · exact hu.2.2 k k' a z.2 z'.2
    · omega
    · omega
    · omega
    · exact hg.2.2 k k' a z.2 z'.2
    · omega
    · omega
    · omega
    · omega
  · rcases adM_inv h with z | z | z <;> omega
  · rcases adM_inv h with z | z | ⟨_, z⟩
    · rw [z.1]; exact (hu.2.1 a (List.mem_of_getElem? z.2)).1
    · rw [z.1]; exact (hg.2.1 a (List.mem_of_getElem? z.2)).1
    · rcases z with z | z | z | z | z | z <;> (rw [z.1, z.2])
      · exact k0
      · exact ma.1
      · exact k2
      · exact k3
      · exact co.1
      · exact hca
  · show (lt V E 7 8 m).length = U
    rw [hus]; exact hu.1
  · show (lt V E 7 8 m)[u]? = _
    rw [hus]; rfl
  · rcases adM_inv h with z | z | z
    · have un := hu.2.1 a (List.mem_of_getElem? z.2)
      exact ⟨un.2.1, fun k hk => (un.2.2.1 k).trans (nn _ (by omega)).symm⟩
    · omega
    · omega
  · show (lt V E 9 0 ca).length = G
    rw [hgs]; exact hg.1
  · show (lt V E 9 0 ca)[q]? = _
    rw [hgs]; rfl
  · have hk' : k = 0 ∨ k = 1 ∨ k = 2 := by omega
    show (lt V E 2 k (P 2)).Nodup ∧ _
    rcases hk' with e | e | e <;> subst e
    · exact ⟨pn.1.1.1, fun x _ q h => no (by omega) h⟩
    · exact ⟨pn.2.1.1.1, fun x _ q h => no (by omega) h⟩
    · exact ⟨pn.2.2.1.1.1, fun x _ q h => no (by omega) h⟩
theorem GZ.gx (g : GZ nC nS A V E M P B b1 b2 n0 n1 n2) (l0 : lt V E 3 0 (P 3) = []) (x302 : xi V 302 (P 3) 0 = 0) (x5 : xr V 105 (P 0) 0 = some m) (ma : MA V P (xr V 100 (P 0) 0) (xr V 101 (P 0) 0) m ul L S B I p12) (x9 : xr V 709 m 0 = some ca) (o11 : OW V 7 11 m L) (hus : lt V E 7 8 m = us) (hgs : lt V E 9 0 ca = gs) (hu : us.length = U ∧ (∀ a, a ∈ us → UN V a S) ∧ inj us) (hca : kdV V ca = 10) (hg : gs.length = G ∧ (∀ a, a ∈ gs → GN V a) ∧ inj gs) (h901 : xi V 901 ca 0 = 0) (h902 : xi V 902 ca 0 = 0) (hL : L ≤ 32) (hS : S ≤ 16) (hU : U ≤ 8) (hG : G ≤ 8) (mn : MN N L S U B G I p12) (hK : N.2.2 = M.2.2) (hm2 : ∀ i, i < 4096 → N.2.1 2 i = M.2.1 2 i) : GX nC nS A V E (adM P m ca us gs) N (Pm P m ca L S U G) 0 B b1 b2 n0 n1 n2 := by
  have sh := sh_new g x5 ma x9 o11 hus hgs hu hca hg hL hS hU hG mn
  have hn : ∀ {c : Nat}, c = 12 ∨ c = 13 ∨ c = 14 ∨ c = 15 → adM P m ca us gs c = a00 c := fun {c} hc => by
    funext k
    cases e : adM P m ca us gs c k with
    | none => rfl
    | some a => rcases adM_inv e with z | z | z <;> omega
  have cx := cx_new (N := N) ma us gs hu.1 hg.1 hu.2.1 hg.2.1 h901 h902 (fun i hi => (g.2.2.2.2.2.2.2.2 i hi).trans (hm2 i hi).symm) mn
  obtain ⟨s, ⟨gl, wt, sj⟩, _, _, hl, co, kn, pn, _⟩ := g
  have gy : GY nC nS A V E (adM P m ca us gs) N (Pm P m ca L S U G) B b1 b2 n0 n1 n2 := by
    refine ⟨?_, ⟨⟨cx, gl, wt, sh⟩, hl, co, ?_⟩, ?_⟩
    · have e1 : ptC V E (adM P m ca us gs) (Pm P m ca L S U G) n0 n1 n2 = ptC V E a00 P n0 n1 n2 := by
        unfold ptC
        rw [hn (c := 13) (by omega), hn (c := 12) (by omega)]
        rfl
      have e2 : ptS V E (adM P m ca us gs) (Pm P m ca L S U G) n0 n1 n2 = ptS V E a00 P n0 n1 n2 := by
        unfold ptS
        rw [hn (c := 13) (by omega), hn (c := 12) (by omega)]
        rfl
      rw [e1, e2]
      exact s
    · refine ⟨kn.1, fun k w hw => ?_⟩
      rw [hK]
      exact (kn.2 k w hw).fm (fun k' x1 x2 => z_take_k _ _ _ k' x1 x2)
    · unfold PN
      rw [hn (c := 13) (by omega), hn (c := 12) (by omega), hn (c := 14) (by omega)]
      exact pn
  exact gy.gx l0 x302 (fun k => by rw [hn (c := 15) (by omega)]; rfl) (mn.2.1 41 (by decide))
end J19
