set_option maxRecDepth 100000
theorem cls_of {M : MH} {b ci : Nat} {r : vw_C} (hc : mcl[ci]? = some r) (hs : (msh M b).1 = ci) : ClsOf M b r.1 := Or.inl ⟨r, by rw [hs]; exact hc, rfl⟩
def mX0_init : MD := (yX0_init, cX0_init, 1, none, [])
theorem wX0_init : mword mX0_init ∈ lw_all := by
  show (if ([] : List (Nat × Nat × Nat × Nat)) = [] then _ else _) ∈ lw_all
  rw [if_pos rfl]
  exact q123
theorem kX0_init : Cal mX0_init := ⟨wX0_init, q90, Nat.le_of_ble_eq_true rfl, by decide +kernel⟩
theorem nX0_init : argN mX0_init 0 := by unfold argN; decide +kernel
theorem hX0_init : notMH (my mX0_init).cls := ⟨by decide +kernel, by decide +kernel⟩
def mX0_type : MD := (yX0_type, cX0_type, 3, some .int, [])
theorem wX0_type : mword mX0_type ∈ lw_all := by
  show (if ([] : List (Nat × Nat × Nat × Nat)) = [] then _ else _) ∈ lw_all
  rw [if_pos rfl]
  exact q334
theorem kX0_type : Cal mX0_type := ⟨wX0_type, q90, Nat.le_of_ble_eq_true rfl, by decide +kernel⟩
theorem nX0_type : argN mX0_type 2 := by unfold argN; decide +kernel
theorem hX0_type : notMH (my mX0_type).cls := ⟨by decide +kernel, by decide +kernel⟩
def mX0_isTwo : MD := (yX0_isTwo, cX0_isTwo, 1, some .boolean, [])
theorem wX0_isTwo : mword mX0_isTwo ∈ lw_all := by
  show (if ([] : List (Nat × Nat × Nat × Nat)) = [] then _ else _) ∈ lw_all
  rw [if_pos rfl]
  exact q337
theorem kX0_isTwo : Cal mX0_isTwo := ⟨wX0_isTwo, q90, Nat.le_of_ble_eq_true rfl, by decide +kernel⟩
theorem nX0_isTwo : argN mX0_isTwo 1 := by unfold argN; decide +kernel
theorem hX0_isTwo : notMH (my mX0_isTwo).cls := ⟨by decide +kernel, by decide +kernel⟩
def mX0_in : MD := (yX0_in, cX0_in, 6, some .boolean, [])
theorem wX0_in : mword mX0_in ∈ lw_all := by
  show (if ([] : List (Nat × Nat × Nat × Nat)) = [] then _ else _) ∈ lw_all
  rw [if_pos rfl]
  exact q340
theorem kX0_in : Cal mX0_in := ⟨wX0_in, q90, Nat.le_of_ble_eq_true rfl, by decide +kernel⟩
theorem nX0_in : argN mX0_in 3 := by unfold argN; decide +kernel
theorem hX0_in : notMH (my mX0_in).cls := ⟨by decide +kernel, by decide +kernel⟩
def mX0_wipe : MD := (yX0_wipe, cX0_wipe, 2, some .int, [])
theorem wX0_wipe : mword mX0_wipe ∈ lw_all := by
  show (if ([] : List (Nat × Nat × Nat × Nat)) = [] then _ else _) ∈ lw_all
  rw [if_pos rfl]
  exact q354
theorem kX0_wipe : Cal mX0_wipe := ⟨wX0_wipe, q90, Nat.le_of_ble_eq_true rfl, by decide +kernel⟩
theorem nX0_wipe : argN mX0_wipe 1 := by unfold argN; decide +kernel
theorem hX0_wipe : notMH (my mX0_wipe).cls := ⟨by decide +kernel, by decide +kernel⟩
def mX0_fault : MD := (yX0_fault, cX0_fault, 2, some .int, [])
theorem wX0_fault : mword mX0_fault ∈ lw_all := by
  show (if ([] : List (Nat × Nat × Nat × Nat)) = [] then _ else _) ∈ lw_all
  rw [if_pos rfl]
  exact q367
theorem kX0_fault : Cal mX0_fault := ⟨wX0_fault, q90, Nat.le_of_ble_eq_true rfl, by decide +kernel⟩
theorem nX0_fault : argN mX0_fault 1 := by unfold argN; decide +kernel
theorem hX0_fault : notMH (my mX0_fault).cls := ⟨by decide +kernel, by decide +kernel⟩
def mX0_faultOf : MD := (yX0_faultOf, cX0_faultOf, 2, some .int, [])
theorem wX0_faultOf : mword mX0_faultOf ∈ lw_all := by
  show (if ([] : List (Nat × Nat × Nat × Nat)) = [] then _ else _) ∈ lw_all
  rw [if_pos rfl]
  exact q371
theorem kX0_faultOf : Cal mX0_faultOf := ⟨wX0_faultOf, q90, Nat.le_of_ble_eq_true rfl, by decide +kernel⟩
theorem nX0_faultOf : argN mX0_faultOf 1 := by unfold argN; decide +kernel
theorem hX0_faultOf : notMH (my mX0_faultOf).cls := ⟨by decide +kernel, by decide +kernel⟩
def mX0_house : MD := (yX0_house, cX0_house, 3, some .int, [])
theorem wX0_house : mword mX0_house ∈ lw_all := by
  show (if ([] : List (Nat × Nat × Nat × Nat)) = [] then _ else _) ∈ lw_all
  rw [if_pos rfl]
  exact q626
theorem kX0_house : Cal mX0_house := ⟨wX0_house, q90, Nat.le_of_ble_eq_true rfl, by decide +kernel⟩
theorem nX0_house : argN mX0_house 2 := by unfold argN; decide +kernel
theorem hX0_house : notMH (my mX0_house).cls := ⟨by decide +kernel, by decide +kernel⟩
def mX0_isHouse : MD := (yX0_isHouse, cX0_isHouse, 2, some .boolean, [])
theorem wX0_isHouse : mword mX0_isHouse ∈ lw_all := by
  show (if ([] : List (Nat × Nat × Nat × Nat)) = [] then _ else _) ∈ lw_all
  rw [if_pos rfl]
  exact q630
theorem kX0_isHouse : Cal mX0_isHouse := ⟨wX0_isHouse, q90, Nat.le_of_ble_eq_true rfl, by decide +kernel⟩
theorem nX0_isHouse : argN mX0_isHouse 1 := by unfold argN; decide +kernel
theorem hX0_isHouse : notMH (my mX0_isHouse).cls := ⟨by decide +kernel, by decide +kernel⟩
def mX0_houses : MD := (yX0_houses, cX0_houses, 1, some .int, [])
theorem wX0_houses : mword mX0_houses ∈ lw_all := by
  show (if ([] : List (Nat × Nat × Nat × Nat)) = [] then _ else _) ∈ lw_all
  rw [if_pos rfl]
  exact q634
theorem kX0_houses : Cal mX0_houses := ⟨wX0_houses, q90, Nat.le_of_ble_eq_true rfl, by decide +kernel⟩
theorem nX0_houses : argN mX0_houses 0 := by unfold argN; decide +kernel
theorem hX0_houses : notMH (my mX0_houses).cls := ⟨by decide +kernel, by decide +kernel⟩
def mX0_houseBy : MD := (yX0_houseBy, cX0_houseBy, 3, some .int, [])
theorem wX0_houseBy : mword mX0_houseBy ∈ lw_all := by
  show (if ([] : List (Nat × Nat × Nat × Nat)) = [] then _ else _) ∈ lw_all
  rw [if_pos rfl]
  exact q646
theorem kX0_houseBy : Cal mX0_houseBy := ⟨wX0_houseBy, q90, Nat.le_of_ble_eq_true rfl, by decide +kernel⟩
theorem nX0_houseBy : argN mX0_houseBy 2 := by unfold argN; decide +kernel
theorem hX0_houseBy : notMH (my mX0_houseBy).cls := ⟨by decide +kernel, by decide +kernel⟩
def mX0_house_2 : MD := (yX0_house_2, cX0_house_2, 2, some (.object "SoldWithIt$House"), [])
theorem wX0_house_2 : mword mX0_house_2 ∈ lw_all := by
  show (if ([] : List (Nat × Nat × Nat × Nat)) = [] then _ else _) ∈ lw_all
  rw [if_pos rfl]
  exact q650
theorem kX0_house_2 : Cal mX0_house_2 := ⟨wX0_house_2, q90, Nat.le_of_ble_eq_true rfl, by decide +kernel⟩
theorem nX0_house_2 : argN mX0_house_2 1 := by unfold argN; decide +kernel
theorem hX0_house_2 : notMH (my mX0_house_2).cls := ⟨by decide +kernel, by decide +kernel⟩
def mX0_within : MD := (yX0_within, cX0_within, 4, some .int, [])
theorem wX0_within : mword mX0_within ∈ lw_all := by
  show (if ([] : List (Nat × Nat × Nat × Nat)) = [] then _ else _) ∈ lw_all
  rw [if_pos rfl]
  exact q675
theorem kX0_within : Cal mX0_within := ⟨wX0_within, q90, Nat.le_of_ble_eq_true rfl, by decide +kernel⟩
theorem nX0_within : argN mX0_within 1 := by unfold argN; decide +kernel
theorem hX0_within : notMH (my mX0_within).cls := ⟨by decide +kernel, by decide +kernel⟩
def mX0_people : MD := (yX0_people, cX0_people, 1, some .int, [])
theorem wX0_people : mword mX0_people ∈ lw_all := by
  show (if ([] : List (Nat × Nat × Nat × Nat)) = [] then _ else _) ∈ lw_all
  rw [if_pos rfl]
  exact q679
theorem kX0_people : Cal mX0_people := ⟨wX0_people, q90, Nat.le_of_ble_eq_true rfl, by decide +kernel⟩
theorem nX0_people : argN mX0_people 0 := by unfold argN; decide +kernel
theorem hX0_people : notMH (my mX0_people).cls := ⟨by decide +kernel, by decide +kernel⟩
def mX0_placeOf : MD := (yX0_placeOf, cX0_placeOf, 2, some .int, [])
theorem wX0_placeOf : mword mX0_placeOf ∈ lw_all := by
  show (if ([] : List (Nat × Nat × Nat × Nat)) = [] then _ else _) ∈ lw_all
  rw [if_pos rfl]
  exact q686
theorem kX0_placeOf : Cal mX0_placeOf := ⟨wX0_placeOf, q90, Nat.le_of_ble_eq_true rfl, by decide +kernel⟩
theorem nX0_placeOf : argN mX0_placeOf 1 := by unfold argN; decide +kernel
theorem hX0_placeOf : notMH (my mX0_placeOf).cls := ⟨by decide +kernel, by decide +kernel⟩
def mX0_person : MD := (yX0_person, cX0_person, 2, some (.object "SoldWithIt$Person"), [])
theorem wX0_person : mword mX0_person ∈ lw_all := by
  show (if ([] : List (Nat × Nat × Nat × Nat)) = [] then _ else _) ∈ lw_all
  rw [if_pos rfl]
  exact q690
theorem kX0_person : Cal mX0_person := ⟨wX0_person, q90, Nat.le_of_ble_eq_true rfl, by decide +kernel⟩
theorem nX0_person : argN mX0_person 1 := by unfold argN; decide +kernel
theorem hX0_person : notMH (my mX0_person).cls := ⟨by decide +kernel, by decide +kernel⟩
def mX0_person_2 : MD := (yX0_person_2, cX0_person_2, 3, some .int, [])
theorem wX0_person_2 : mword mX0_person_2 ∈ lw_all := by
  show (if ([] : List (Nat × Nat × Nat × Nat)) = [] then _ else _) ∈ lw_all
  rw [if_pos rfl]
  exact q698
theorem kX0_person_2 : Cal mX0_person_2 := ⟨wX0_person_2, q90, Nat.le_of_ble_eq_true rfl, by decide +kernel⟩
theorem nX0_person_2 : argN mX0_person_2 2 := by unfold argN; decide +kernel
theorem hX0_person_2 : notMH (my mX0_person_2).cls := ⟨by decide +kernel, by decide +kernel⟩
def mX0_isPerson : MD := (yX0_isPerson, cX0_isPerson, 2, some .boolean, [])
theorem wX0_isPerson : mword mX0_isPerson ∈ lw_all := by
  show (if ([] : List (Nat × Nat × Nat × Nat)) = [] then _ else _) ∈ lw_all
  rw [if_pos rfl]
  exact q702
theorem kX0_isPerson : Cal mX0_isPerson := ⟨wX0_isPerson, q90, Nat.le_of_ble_eq_true rfl, by decide +kernel⟩
theorem nX0_isPerson : argN mX0_isPerson 1 := by unfold argN; decide +kernel
theorem hX0_isPerson : notMH (my mX0_isPerson).cls := ⟨by decide +kernel, by decide +kernel⟩
def mX0_personBy : MD := (yX0_personBy, cX0_personBy, 3, some .int, [])
theorem wX0_personBy : mword mX0_personBy ∈ lw_all := by
  show (if ([] : List (Nat × Nat × Nat × Nat)) = [] then _ else _) ∈ lw_all
  rw [if_pos rfl]
  exact q706
theorem kX0_personBy : Cal mX0_personBy := ⟨wX0_personBy, q90, Nat.le_of_ble_eq_true rfl, by decide +kernel⟩
theorem nX0_personBy : argN mX0_personBy 2 := by unfold argN; decide +kernel
theorem hX0_personBy : notMH (my mX0_personBy).cls := ⟨by decide +kernel, by decide +kernel⟩
def mX0_told : MD := (yX0_told, cX0_told, 1, some .int, [])
theorem wX0_told : mword mX0_told ∈ lw_all := by
  show (if ([] : List (Nat × Nat × Nat × Nat)) = [] then _ else _) ∈ lw_all
  rw [if_pos rfl]
  exact q709
theorem kX0_told : Cal mX0_told := ⟨wX0_told, q90, Nat.le_of_ble_eq_true rfl, by decide +kernel⟩
theorem nX0_told : argN mX0_told 1 := by unfold argN; decide +kernel
theorem hX0_told : notMH (my mX0_told).cls := ⟨by decide +kernel, by decide +kernel⟩
def mX0_ownedBy : MD := (yX0_ownedBy, cX0_ownedBy, 4, some .int, [])
theorem wX0_ownedBy : mword mX0_ownedBy ∈ lw_all := by
  show (if ([] : List (Nat × Nat × Nat × Nat)) = [] then _ else _) ∈ lw_all
  rw [if_pos rfl]
  exact q713
theorem kX0_ownedBy : Cal mX0_ownedBy := ⟨wX0_ownedBy, q90, Nat.le_of_ble_eq_true rfl, by decide +kernel⟩
theorem nX0_ownedBy : argN mX0_ownedBy 1 := by unfold argN; decide +kernel
theorem hX0_ownedBy : notMH (my mX0_ownedBy).cls := ⟨by decide +kernel, by decide +kernel⟩
def mX0_law : MD := (yX0_law, cX0_law, 4, some .int, [])
theorem wX0_law : mword mX0_law ∈ lw_all := by
  show (if ([] : List (Nat × Nat × Nat × Nat)) = [] then _ else _) ∈ lw_all
  rw [if_pos rfl]
  exact q717
theorem kX0_law : Cal mX0_law := ⟨wX0_law, q90, Nat.le_of_ble_eq_true rfl, by decide +kernel⟩
theorem nX0_law : argN mX0_law 2 := by unfold argN; decide +kernel
theorem hX0_law : notMH (my mX0_law).cls := ⟨by decide +kernel, by decide +kernel⟩
def mX0_sale : MD := (yX0_sale, cX0_sale, 3, some .int, [])
theorem wX0_sale : mword mX0_sale ∈ lw_all := by
  show (if ([] : List (Nat × Nat × Nat × Nat)) = [] then _ else _) ∈ lw_all
  rw [if_pos rfl]
  exact q721
theorem kX0_sale : Cal mX0_sale := ⟨wX0_sale, q90, Nat.le_of_ble_eq_true rfl, by decide +kernel⟩
theorem nX0_sale : argN mX0_sale 2 := by unfold argN; decide +kernel
theorem hX0_sale : notMH (my mX0_sale).cls := ⟨by decide +kernel, by decide +kernel⟩
def mX0_isOne : MD := (yX0_isOne, cX0_isOne, 1, some .boolean, [])
theorem wX0_isOne : mword mX0_isOne ∈ lw_all := by
  show (if ([] : List (Nat × Nat × Nat × Nat)) = [] then _ else _) ∈ lw_all
  rw [if_pos rfl]
  exact q724
theorem kX0_isOne : Cal mX0_isOne := ⟨wX0_isOne, q90, Nat.le_of_ble_eq_true rfl, by decide +kernel⟩
theorem nX0_isOne : argN mX0_isOne 1 := by unfold argN; decide +kernel
theorem hX0_isOne : notMH (my mX0_isOne).cls := ⟨by decide +kernel, by decide +kernel⟩
def mX0_read : MD := (yX0_read, cX0_read, 4, some .int, [])
theorem wX0_read : mword mX0_read ∈ lw_all := by
  show (if ([] : List (Nat × Nat × Nat × Nat)) = [] then _ else _) ∈ lw_all
  rw [if_pos rfl]
  exact q729
theorem kX0_read : Cal mX0_read := ⟨wX0_read, q90, Nat.le_of_ble_eq_true rfl, by decide +kernel⟩
theorem nX0_read : argN mX0_read 1 := by unfold argN; decide +kernel
theorem hX0_read : notMH (my mX0_read).cls := ⟨by decide +kernel, by decide +kernel⟩
def mX0_isSheet : MD := (yX0_isSheet, cX0_isSheet, 1, some .boolean, [])
theorem wX0_isSheet : mword mX0_isSheet ∈ lw_all := by
  show (if ([] : List (Nat × Nat × Nat × Nat)) = [] then _ else _) ∈ lw_all
  rw [if_pos rfl]
  exact q732
theorem kX0_isSheet : Cal mX0_isSheet := ⟨wX0_isSheet, q90, Nat.le_of_ble_eq_true rfl, by decide +kernel⟩
theorem nX0_isSheet : argN mX0_isSheet 1 := by unfold argN; decide +kernel
theorem hX0_isSheet : notMH (my mX0_isSheet).cls := ⟨by decide +kernel, by decide +kernel⟩
def mX0_met : MD := (yX0_met, cX0_met, 2, some .int, [])
theorem wX0_met : mword mX0_met ∈ lw_all := by
  show (if ([] : List (Nat × Nat × Nat × Nat)) = [] then _ else _) ∈ lw_all
  rw [if_pos rfl]
  exact q737
theorem kX0_met : Cal mX0_met := ⟨wX0_met, q90, Nat.le_of_ble_eq_true rfl, by decide +kernel⟩
theorem nX0_met : argN mX0_met 1 := by unfold argN; decide +kernel
theorem hX0_met : notMH (my mX0_met).cls := ⟨by decide +kernel, by decide +kernel⟩
def mX0_undo : MD := (yX0_undo, cX0_undo, 1, some .int, [])
theorem wX0_undo : mword mX0_undo ∈ lw_all := by
  show (if ([] : List (Nat × Nat × Nat × Nat)) = [] then _ else _) ∈ lw_all
  rw [if_pos rfl]
  exact q758
theorem kX0_undo : Cal mX0_undo := ⟨wX0_undo, q90, Nat.le_of_ble_eq_true rfl, by decide +kernel⟩
theorem nX0_undo : argN mX0_undo 0 := by unfold argN; decide +kernel
theorem hX0_undo : notMH (my mX0_undo).cls := ⟨by decide +kernel, by decide +kernel⟩
def mX0_whose : MD := (yX0_whose, cX0_whose, 3, some .int, [])
theorem wX0_whose : mword mX0_whose ∈ lw_all := by
  show (if ([] : List (Nat × Nat × Nat × Nat)) = [] then _ else _) ∈ lw_all
  rw [if_pos rfl]
  exact q762
theorem kX0_whose : Cal mX0_whose := ⟨wX0_whose, q90, Nat.le_of_ble_eq_true rfl, by decide +kernel⟩
theorem nX0_whose : argN mX0_whose 2 := by unfold argN; decide +kernel
theorem hX0_whose : notMH (my mX0_whose).cls := ⟨by decide +kernel, by decide +kernel⟩
def mX0_isSo : MD := (yX0_isSo, cX0_isSo, 2, some .boolean, [])
theorem wX0_isSo : mword mX0_isSo ∈ lw_all := by
  show (if ([] : List (Nat × Nat × Nat × Nat)) = [] then _ else _) ∈ lw_all
  rw [if_pos rfl]
  exact q766
theorem kX0_isSo : Cal mX0_isSo := ⟨wX0_isSo, q90, Nat.le_of_ble_eq_true rfl, by decide +kernel⟩
theorem nX0_isSo : argN mX0_isSo 1 := by unfold argN; decide +kernel
theorem hX0_isSo : notMH (my mX0_isSo).cls := ⟨by decide +kernel, by decide +kernel⟩
def mX0_find : MD := (yX0_find, cX0_find, 2, none, [])
theorem wX0_find : mword mX0_find ∈ lw_all := by
  show (if ([] : List (Nat × Nat × Nat × Nat)) = [] then _ else _) ∈ lw_all
  rw [if_pos rfl]
  exact q770
theorem kX0_find : Cal mX0_find := ⟨wX0_find, q90, Nat.le_of_ble_eq_true rfl, by decide +kernel⟩
theorem nX0_find : argN mX0_find 0 := by unfold argN; decide +kernel
theorem hX0_find : notMH (my mX0_find).cls := ⟨by decide +kernel, by decide +kernel⟩
def mX0_keeps : MD := (yX0_keeps, cX0_keeps, 2, none, [])
theorem wX0_keeps : mword mX0_keeps ∈ lw_all := by
  show (if ([] : List (Nat × Nat × Nat × Nat)) = [] then _ else _) ∈ lw_all
  rw [if_pos rfl]
  exact q790
theorem kX0_keeps : Cal mX0_keeps := ⟨wX0_keeps, q90, Nat.le_of_ble_eq_true rfl, by decide +kernel⟩
theorem nX0_keeps : argN mX0_keeps 1 := by unfold argN; decide +kernel
theorem hX0_keeps : notMH (my mX0_keeps).cls := ⟨by decide +kernel, by decide +kernel⟩
def mX0_isIn : MD := (yX0_isIn, cX0_isIn, 2, some .boolean, [])
theorem wX0_isIn : mword mX0_isIn ∈ lw_all := by
  show (if ([] : List (Nat × Nat × Nat × Nat)) = [] then _ else _) ∈ lw_all
  rw [if_pos rfl]
  exact q804
theorem kX0_isIn : Cal mX0_isIn := ⟨wX0_isIn, q90, Nat.le_of_ble_eq_true rfl, by decide +kernel⟩
theorem nX0_isIn : argN mX0_isIn 2 := by unfold argN; decide +kernel
theorem hX0_isIn : notMH (my mX0_isIn).cls := ⟨by decide +kernel, by decide +kernel⟩
def mX0_keeper : MD := (yX0_keeper, cX0_keeper, 3, some .int, [])
theorem wX0_keeper : mword mX0_keeper ∈ lw_all := by
  show (if ([] : List (Nat × Nat × Nat × Nat)) = [] then _ else _) ∈ lw_all
  rw [if_pos rfl]
  exact q818
theorem kX0_keeper : Cal mX0_keeper := ⟨wX0_keeper, q90, Nat.le_of_ble_eq_true rfl, by decide +kernel⟩
theorem nX0_keeper : argN mX0_keeper 2 := by unfold argN; decide +kernel
theorem hX0_keeper : notMH (my mX0_keeper).cls := ⟨by decide +kernel, by decide +kernel⟩
def mX0_sold : MD := (yX0_sold, cX0_sold, 3, some .int, [])
theorem wX0_sold : mword mX0_sold ∈ lw_all := by
  show (if ([] : List (Nat × Nat × Nat × Nat)) = [] then _ else _) ∈ lw_all
  rw [if_pos rfl]
  exact q822
theorem kX0_sold : Cal mX0_sold := ⟨wX0_sold, q90, Nat.le_of_ble_eq_true rfl, by decide +kernel⟩
theorem nX0_sold : argN mX0_sold 2 := by unfold argN; decide +kernel
theorem hX0_sold : notMH (my mX0_sold).cls := ⟨by decide +kernel, by decide +kernel⟩
def mX0_length : MD := (yX0_length, cX0_length, 2, some .int, [])
theorem wX0_length : mword mX0_length ∈ lw_all := by
  show (if ([] : List (Nat × Nat × Nat × Nat)) = [] then _ else _) ∈ lw_all
  rw [if_pos rfl]
  exact q826
theorem kX0_length : Cal mX0_length := ⟨wX0_length, q90, Nat.le_of_ble_eq_true rfl, by decide +kernel⟩
theorem nX0_length : argN mX0_length 1 := by unfold argN; decide +kernel
theorem hX0_length : notMH (my mX0_length).cls := ⟨by decide +kernel, by decide +kernel⟩
def mX0_lengthOf : MD := (yX0_lengthOf, cX0_lengthOf, 2, some .int, [])
theorem wX0_lengthOf : mword mX0_lengthOf ∈ lw_all := by
  show (if ([] : List (Nat × Nat × Nat × Nat)) = [] then _ else _) ∈ lw_all
  rw [if_pos rfl]
  exact q830
theorem kX0_lengthOf : Cal mX0_lengthOf := ⟨wX0_lengthOf, q90, Nat.le_of_ble_eq_true rfl, by decide +kernel⟩
theorem nX0_lengthOf : argN mX0_lengthOf 1 := by unfold argN; decide +kernel
theorem hX0_lengthOf : notMH (my mX0_lengthOf).cls := ⟨by decide +kernel, by decide +kernel⟩
def mX0_worth : MD := (yX0_worth, cX0_worth, 4, some .int, [])
theorem wX0_worth : mword mX0_worth ∈ lw_all := by
  show (if ([] : List (Nat × Nat × Nat × Nat)) = [] then _ else _) ∈ lw_all
  rw [if_pos rfl]
  exact q834
theorem kX0_worth : Cal mX0_worth := ⟨wX0_worth, q90, Nat.le_of_ble_eq_true rfl, by decide +kernel⟩
theorem nX0_worth : argN mX0_worth 3 := by unfold argN; decide +kernel
theorem hX0_worth : notMH (my mX0_worth).cls := ⟨by decide +kernel, by decide +kernel⟩
def mX0_tells : MD := (yX0_tells, cX0_tells, 6, some .int, [])
theorem wX0_tells : mword mX0_tells ∈ lw_all := by
  show (if ([] : List (Nat × Nat × Nat × Nat)) = [] then _ else _) ∈ lw_all
  rw [if_pos rfl]
  exact q838
theorem kX0_tells : Cal mX0_tells := ⟨wX0_tells, q90, Nat.le_of_ble_eq_true rfl, by decide +kernel⟩
theorem nX0_tells : argN mX0_tells 4 := by unfold argN; decide +kernel
theorem hX0_tells : notMH (my mX0_tells).cls := ⟨by decide +kernel, by decide +kernel⟩
def mX0_any : MD := (yX0_any, cX0_any, 1, some .int, [])
theorem wX0_any : mword mX0_any ∈ lw_all := by
  show (if ([] : List (Nat × Nat × Nat × Nat)) = [] then _ else _) ∈ lw_all
  rw [if_pos rfl]
  exact q843
theorem kX0_any : Cal mX0_any := ⟨wX0_any, q90, Nat.le_of_ble_eq_true rfl, by decide +kernel⟩
theorem nX0_any : argN mX0_any 1 := by unfold argN; decide +kernel
theorem hX0_any : notMH (my mX0_any).cls := ⟨by decide +kernel, by decide +kernel⟩
def mX0_like : MD := (yX0_like, cX0_like, 4, some .int, [])
theorem wX0_like : mword mX0_like ∈ lw_all := by
  show (if ([] : List (Nat × Nat × Nat × Nat)) = [] then _ else _) ∈ lw_all
  rw [if_pos rfl]
  exact q848
theorem kX0_like : Cal mX0_like := ⟨wX0_like, q90, Nat.le_of_ble_eq_true rfl, by decide +kernel⟩
theorem nX0_like : argN mX0_like 3 := by unfold argN; decide +kernel
theorem hX0_like : notMH (my mX0_like).cls := ⟨by decide +kernel, by decide +kernel⟩
def mX0_gain : MD := (yX0_gain, cX0_gain, 2, some .int, [])
theorem wX0_gain : mword mX0_gain ∈ lw_all := by
  show (if ([] : List (Nat × Nat × Nat × Nat)) = [] then _ else _) ∈ lw_all
  rw [if_pos rfl]
  exact q852
theorem kX0_gain : Cal mX0_gain := ⟨wX0_gain, q90, Nat.le_of_ble_eq_true rfl, by decide +kernel⟩
theorem nX0_gain : argN mX0_gain 1 := by unfold argN; decide +kernel
theorem hX0_gain : notMH (my mX0_gain).cls := ⟨by decide +kernel, by decide +kernel⟩
def mX0_gainOf : MD := (yX0_gainOf, cX0_gainOf, 2, some .int, [])
theorem wX0_gainOf : mword mX0_gainOf ∈ lw_all := by
  show (if ([] : List (Nat × Nat × Nat × Nat)) = [] then _ else _) ∈ lw_all
  rw [if_pos rfl]
  exact q856
theorem kX0_gainOf : Cal mX0_gainOf := ⟨wX0_gainOf, q90, Nat.le_of_ble_eq_true rfl, by decide +kernel⟩
theorem nX0_gainOf : argN mX0_gainOf 1 := by unfold argN; decide +kernel
theorem hX0_gainOf : notMH (my mX0_gainOf).cls := ⟨by decide +kernel, by decide +kernel⟩
def mX0_best : MD := (yX0_best, cX0_best, 3, some .int, [])
theorem wX0_best : mword mX0_best ∈ lw_all := by
  show (if ([] : List (Nat × Nat × Nat × Nat)) = [] then _ else _) ∈ lw_all
  rw [if_pos rfl]
  exact q864
theorem kX0_best : Cal mX0_best := ⟨wX0_best, q90, Nat.le_of_ble_eq_true rfl, by decide +kernel⟩
theorem nX0_best : argN mX0_best 2 := by unfold argN; decide +kernel
theorem hX0_best : notMH (my mX0_best).cls := ⟨by decide +kernel, by decide +kernel⟩
def mX0_bestOf : MD := (yX0_bestOf, cX0_bestOf, 7, some .int, [])
theorem wX0_bestOf : mword mX0_bestOf ∈ lw_all := by
  show (if ([] : List (Nat × Nat × Nat × Nat)) = [] then _ else _) ∈ lw_all
  rw [if_pos rfl]
  exact q868
theorem kX0_bestOf : Cal mX0_bestOf := ⟨wX0_bestOf, q90, Nat.le_of_ble_eq_true rfl, by decide +kernel⟩
theorem nX0_bestOf : argN mX0_bestOf 2 := by unfold argN; decide +kernel
theorem hX0_bestOf : notMH (my mX0_bestOf).cls := ⟨by decide +kernel, by decide +kernel⟩
def mX0_rows : MD := (yX0_rows, cX0_rows, 3, some .int, [])
theorem wX0_rows : mword mX0_rows ∈ lw_all := by
  show (if ([] : List (Nat × Nat × Nat × Nat)) = [] then _ else _) ∈ lw_all
  rw [if_pos rfl]
  exact q872
theorem kX0_rows : Cal mX0_rows := ⟨wX0_rows, q90, Nat.le_of_ble_eq_true rfl, by decide +kernel⟩
theorem nX0_rows : argN mX0_rows 0 := by unfold argN; decide +kernel
theorem hX0_rows : notMH (my mX0_rows).cls := ⟨by decide +kernel, by decide +kernel⟩
def mX0_places : MD := (yX0_places, cX0_places, 1, some .int, [])
theorem wX0_places : mword mX0_places ∈ lw_all := by
  show (if ([] : List (Nat × Nat × Nat × Nat)) = [] then _ else _) ∈ lw_all
  rw [if_pos rfl]
  exact q876
theorem kX0_places : Cal mX0_places := ⟨wX0_places, q90, Nat.le_of_ble_eq_true rfl, by decide +kernel⟩
theorem nX0_places : argN mX0_places 0 := by unfold argN; decide +kernel
theorem hX0_places : notMH (my mX0_places).cls := ⟨by decide +kernel, by decide +kernel⟩
def mX0_triedAt : MD := (yX0_triedAt, cX0_triedAt, 3, some (.object "SoldWithIt$Noon"), [])
theorem wX0_triedAt : mword mX0_triedAt ∈ lw_all := by
  show (if ([] : List (Nat × Nat × Nat × Nat)) = [] then _ else _) ∈ lw_all
  rw [if_pos rfl]
  exact q880
theorem kX0_triedAt : Cal mX0_triedAt := ⟨wX0_triedAt, q90, Nat.le_of_ble_eq_true rfl, by decide +kernel⟩
theorem nX0_triedAt : argN mX0_triedAt 1 := by unfold argN; decide +kernel
theorem hX0_triedAt : notMH (my mX0_triedAt).cls := ⟨by decide +kernel, by decide +kernel⟩
def mX0_placeIn : MD := (yX0_placeIn, cX0_placeIn, 4, some .int, [])
theorem wX0_placeIn : mword mX0_placeIn ∈ lw_all := by
  show (if ([] : List (Nat × Nat × Nat × Nat)) = [] then _ else _) ∈ lw_all
  rw [if_pos rfl]
  exact q884
theorem kX0_placeIn : Cal mX0_placeIn := ⟨wX0_placeIn, q90, Nat.le_of_ble_eq_true rfl, by decide +kernel⟩
theorem nX0_placeIn : argN mX0_placeIn 2 := by unfold argN; decide +kernel
theorem hX0_placeIn : notMH (my mX0_placeIn).cls := ⟨by decide +kernel, by decide +kernel⟩
def mX0_weight : MD := (yX0_weight, cX0_weight, 4, some .int, [])
theorem wX0_weight : mword mX0_weight ∈ lw_all := by
  show (if ([] : List (Nat × Nat × Nat × Nat)) = [] then _ else _) ∈ lw_all
  rw [if_pos rfl]
  exact q888
theorem kX0_weight : Cal mX0_weight := ⟨wX0_weight, q90, Nat.le_of_ble_eq_true rfl, by decide +kernel⟩
theorem nX0_weight : argN mX0_weight 1 := by unfold argN; decide +kernel
theorem hX0_weight : notMH (my mX0_weight).cls := ⟨by decide +kernel, by decide +kernel⟩
def mX0_rest : MD := (yX0_rest, cX0_rest, 2, some .int, [])
theorem wX0_rest : mword mX0_rest ∈ lw_all := by
  show (if ([] : List (Nat × Nat × Nat × Nat)) = [] then _ else _) ∈ lw_all
  rw [if_pos rfl]
  exact q897
theorem kX0_rest : Cal mX0_rest := ⟨wX0_rest, q90, Nat.le_of_ble_eq_true rfl, by decide +kernel⟩
theorem nX0_rest : argN mX0_rest 1 := by unfold argN; decide +kernel
theorem hX0_rest : notMH (my mX0_rest).cls := ⟨by decide +kernel, by decide +kernel⟩
def mX0_restOf : MD := (yX0_restOf, cX0_restOf, 6, some .int, [])
theorem wX0_restOf : mword mX0_restOf ∈ lw_all := by
  show (if ([] : List (Nat × Nat × Nat × Nat)) = [] then _ else _) ∈ lw_all
  rw [if_pos rfl]
  exact q902
theorem kX0_restOf : Cal mX0_restOf := ⟨wX0_restOf, q90, Nat.le_of_ble_eq_true rfl, by decide +kernel⟩
theorem nX0_restOf : argN mX0_restOf 1 := by unfold argN; decide +kernel
theorem hX0_restOf : notMH (my mX0_restOf).cls := ⟨by decide +kernel, by decide +kernel⟩
def mX0_findKept : MD := (yX0_findKept, cX0_findKept, 3, none, [])
theorem wX0_findKept : mword mX0_findKept ∈ lw_all := by
  show (if ([] : List (Nat × Nat × Nat × Nat)) = [] then _ else _) ∈ lw_all
  rw [if_pos rfl]
  exact q906
theorem kX0_findKept : Cal mX0_findKept := ⟨wX0_findKept, q90, Nat.le_of_ble_eq_true rfl, by decide +kernel⟩
theorem nX0_findKept : argN mX0_findKept 0 := by unfold argN; decide +kernel
theorem hX0_findKept : notMH (my mX0_findKept).cls := ⟨by decide +kernel, by decide +kernel⟩
def mX0_rests : MD := (yX0_rests, cX0_rests, 5, some .boolean, [])
theorem wX0_rests : mword mX0_rests ∈ lw_all := by
  show (if ([] : List (Nat × Nat × Nat × Nat)) = [] then _ else _) ∈ lw_all
  rw [if_pos rfl]
  exact q910
theorem kX0_rests : Cal mX0_rests := ⟨wX0_rests, q90, Nat.le_of_ble_eq_true rfl, by decide +kernel⟩
theorem nX0_rests : argN mX0_rests 1 := by unfold argN; decide +kernel
theorem hX0_rests : notMH (my mX0_rests).cls := ⟨by decide +kernel, by decide +kernel⟩
def mX0_liking : MD := (yX0_liking, cX0_liking, 3, some .int, [])
theorem wX0_liking : mword mX0_liking ∈ lw_all := by
  show (if ([] : List (Nat × Nat × Nat × Nat)) = [] then _ else _) ∈ lw_all
  rw [if_pos rfl]
  exact q918
theorem kX0_liking : Cal mX0_liking := ⟨wX0_liking, q90, Nat.le_of_ble_eq_true rfl, by decide +kernel⟩
theorem nX0_liking : argN mX0_liking 2 := by unfold argN; decide +kernel
theorem hX0_liking : notMH (my mX0_liking).cls := ⟨by decide +kernel, by decide +kernel⟩
def mX0_out : MD := (yX0_out, cX0_out, 2, some .int, [])
theorem wX0_out : mword mX0_out ∈ lw_all := by
  show (if ([] : List (Nat × Nat × Nat × Nat)) = [] then _ else _) ∈ lw_all
  rw [if_pos rfl]
  exact q922
theorem kX0_out : Cal mX0_out := ⟨wX0_out, q90, Nat.le_of_ble_eq_true rfl, by decide +kernel⟩
theorem nX0_out : argN mX0_out 1 := by unfold argN; decide +kernel
theorem hX0_out : notMH (my mX0_out).cls := ⟨by decide +kernel, by decide +kernel⟩
def mX0_outOf : MD := (yX0_outOf, cX0_outOf, 5, some .int, [])
theorem wX0_outOf : mword mX0_outOf ∈ lw_all := by
  show (if ([] : List (Nat × Nat × Nat × Nat)) = [] then _ else _) ∈ lw_all
  rw [if_pos rfl]
  exact q926
theorem kX0_outOf : Cal mX0_outOf := ⟨wX0_outOf, q90, Nat.le_of_ble_eq_true rfl, by decide +kernel⟩
theorem nX0_outOf : argN mX0_outOf 1 := by unfold argN; decide +kernel
theorem hX0_outOf : notMH (my mX0_outOf).cls := ⟨by decide +kernel, by decide +kernel⟩
def mX0_isTold : MD := (yX0_isTold, cX0_isTold, 4, some .boolean, [])
theorem wX0_isTold : mword mX0_isTold ∈ lw_all := by
  show (if ([] : List (Nat × Nat × Nat × Nat)) = [] then _ else _) ∈ lw_all
  rw [if_pos rfl]
  exact q930
theorem kX0_isTold : Cal mX0_isTold := ⟨wX0_isTold, q90, Nat.le_of_ble_eq_true rfl, by decide +kernel⟩
theorem nX0_isTold : argN mX0_isTold 1 := by unfold argN; decide +kernel
theorem hX0_isTold : notMH (my mX0_isTold).cls := ⟨by decide +kernel, by decide +kernel⟩
def mX0_value : MD := (yX0_value, cX0_value, 3, some .int, [])
theorem wX0_value : mword mX0_value ∈ lw_all := by
  show (if ([] : List (Nat × Nat × Nat × Nat)) = [] then _ else _) ∈ lw_all
  rw [if_pos rfl]
  exact q938
theorem kX0_value : Cal mX0_value := ⟨wX0_value, q90, Nat.le_of_ble_eq_true rfl, by decide +kernel⟩
theorem nX0_value : argN mX0_value 2 := by unfold argN; decide +kernel
theorem hX0_value : notMH (my mX0_value).cls := ⟨by decide +kernel, by decide +kernel⟩
def mX0_valueOf : MD := (yX0_valueOf, cX0_valueOf, 5, some .int, [])
theorem wX0_valueOf : mword mX0_valueOf ∈ lw_all := by
  show (if ([] : List (Nat × Nat × Nat × Nat)) = [] then _ else _) ∈ lw_all
  rw [if_pos rfl]
  exact q942
theorem kX0_valueOf : Cal mX0_valueOf := ⟨wX0_valueOf, q90, Nat.le_of_ble_eq_true rfl, by decide +kernel⟩
theorem nX0_valueOf : argN mX0_valueOf 2 := by unfold argN; decide +kernel
theorem hX0_valueOf : notMH (my mX0_valueOf).cls := ⟨by decide +kernel, by decide +kernel⟩
def mX0_change : MD := (yX0_change, cX0_change, 3, some .int, [])
theorem wX0_change : mword mX0_change ∈ lw_all := by
  show (if ([] : List (Nat × Nat × Nat × Nat)) = [] then _ else _) ∈ lw_all
  rw [if_pos rfl]
  exact q946
theorem kX0_change : Cal mX0_change := ⟨wX0_change, q90, Nat.le_of_ble_eq_true rfl, by decide +kernel⟩
theorem nX0_change : argN mX0_change 2 := by unfold argN; decide +kernel
theorem hX0_change : notMH (my mX0_change).cls := ⟨by decide +kernel, by decide +kernel⟩
def mX0_wouldChange : MD := (yX0_wouldChange, cX0_wouldChange, 5, some .boolean, [])
theorem wX0_wouldChange : mword mX0_wouldChange ∈ lw_all := by
  show (if ([] : List (Nat × Nat × Nat × Nat)) = [] then _ else _) ∈ lw_all
  rw [if_pos rfl]
  exact q950
theorem kX0_wouldChange : Cal mX0_wouldChange := ⟨wX0_wouldChange, q90, Nat.le_of_ble_eq_true rfl, by decide +kernel⟩
theorem nX0_wouldChange : argN mX0_wouldChange 2 := by unfold argN; decide +kernel
theorem hX0_wouldChange : notMH (my mX0_wouldChange).cls := ⟨by decide +kernel, by decide +kernel⟩
def mX0_changes : MD := (yX0_changes, cX0_changes, 1, some .int, [])
theorem wX0_changes : mword mX0_changes ∈ lw_all := by
  show (if ([] : List (Nat × Nat × Nat × Nat)) = [] then _ else _) ∈ lw_all
  rw [if_pos rfl]
  exact q954
theorem kX0_changes : Cal mX0_changes := ⟨wX0_changes, q90, Nat.le_of_ble_eq_true rfl, by decide +kernel⟩
theorem nX0_changes : argN mX0_changes 0 := by unfold argN; decide +kernel
theorem hX0_changes : notMH (my mX0_changes).cls := ⟨by decide +kernel, by decide +kernel⟩
def mX0_changesNow : MD := (yX0_changesNow, cX0_changesNow, 4, some .int, [])
theorem wX0_changesNow : mword mX0_changesNow ∈ lw_all := by
  show (if ([] : List (Nat × Nat × Nat × Nat)) = [] then _ else _) ∈ lw_all
  rw [if_pos rfl]
  exact q958
theorem kX0_changesNow : Cal mX0_changesNow := ⟨wX0_changesNow, q90, Nat.le_of_ble_eq_true rfl, by decide +kernel⟩
theorem nX0_changesNow : argN mX0_changesNow 0 := by unfold argN; decide +kernel
theorem hX0_changesNow : notMH (my mX0_changesNow).cls := ⟨by decide +kernel, by decide +kernel⟩
def mX0_should : MD := (yX0_should, cX0_should, 5, some .int, [])
theorem wX0_should : mword mX0_should ∈ lw_all := by
  show (if ([] : List (Nat × Nat × Nat × Nat)) = [] then _ else _) ∈ lw_all
  rw [if_pos rfl]
  exact q962
theorem kX0_should : Cal mX0_should := ⟨wX0_should, q90, Nat.le_of_ble_eq_true rfl, by decide +kernel⟩
theorem nX0_should : argN mX0_should 1 := by unfold argN; decide +kernel
theorem hX0_should : notMH (my mX0_should).cls := ⟨by decide +kernel, by decide +kernel⟩
def mX0_come : MD := (yX0_come, cX0_come, 3, some .int, [])
theorem wX0_come : mword mX0_come ∈ lw_all := by
  show (if ([] : List (Nat × Nat × Nat × Nat)) = [] then _ else _) ∈ lw_all
  rw [if_pos rfl]
  exact q988
theorem kX0_come : Cal mX0_come := ⟨wX0_come, q90, Nat.le_of_ble_eq_true rfl, by decide +kernel⟩
theorem nX0_come : argN mX0_come 2 := by unfold argN; decide +kernel
theorem hX0_come : notMH (my mX0_come).cls := ⟨by decide +kernel, by decide +kernel⟩
def mX0_comers : MD := (yX0_comers, cX0_comers, 7, some .int, [])
theorem wX0_comers : mword mX0_comers ∈ lw_all := by
  show (if ([] : List (Nat × Nat × Nat × Nat)) = [] then _ else _) ∈ lw_all
  rw [if_pos rfl]
  exact q993
theorem kX0_comers : Cal mX0_comers := ⟨wX0_comers, q90, Nat.le_of_ble_eq_true rfl, by decide +kernel⟩
theorem nX0_comers : argN mX0_comers 2 := by unfold argN; decide +kernel
theorem hX0_comers : notMH (my mX0_comers).cls := ⟨by decide +kernel, by decide +kernel⟩
def mX0_invite : MD := (yX0_invite, cX0_invite, 3, some .int, [])
theorem wX0_invite : mword mX0_invite ∈ lw_all := by
  show (if ([] : List (Nat × Nat × Nat × Nat)) = [] then _ else _) ∈ lw_all
  rw [if_pos rfl]
  exact q997
theorem kX0_invite : Cal mX0_invite := ⟨wX0_invite, q90, Nat.le_of_ble_eq_true rfl, by decide +kernel⟩
theorem nX0_invite : argN mX0_invite 2 := by unfold argN; decide +kernel
theorem hX0_invite : notMH (my mX0_invite).cls := ⟨by decide +kernel, by decide +kernel⟩
def mX0_inviteOf : MD := (yX0_inviteOf, cX0_inviteOf, 6, some .int, [])
theorem wX0_inviteOf : mword mX0_inviteOf ∈ lw_all := by
  show (if ([] : List (Nat × Nat × Nat × Nat)) = [] then _ else _) ∈ lw_all
  rw [if_pos rfl]
  exact q1001
theorem kX0_inviteOf : Cal mX0_inviteOf := ⟨wX0_inviteOf, q90, Nat.le_of_ble_eq_true rfl, by decide +kernel⟩
theorem nX0_inviteOf : argN mX0_inviteOf 2 := by unfold argN; decide +kernel
theorem hX0_inviteOf : notMH (my mX0_inviteOf).cls := ⟨by decide +kernel, by decide +kernel⟩
def mX0_fact : MD := (yX0_fact, cX0_fact, 3, some .int, [])
theorem wX0_fact : mword mX0_fact ∈ lw_all := by
  show (if ([] : List (Nat × Nat × Nat × Nat)) = [] then _ else _) ∈ lw_all
  rw [if_pos rfl]
  exact q1006
theorem kX0_fact : Cal mX0_fact := ⟨wX0_fact, q90, Nat.le_of_ble_eq_true rfl, by decide +kernel⟩
theorem nX0_fact : argN mX0_fact 2 := by unfold argN; decide +kernel
theorem hX0_fact : notMH (my mX0_fact).cls := ⟨by decide +kernel, by decide +kernel⟩
def mX0_forget : MD := (yX0_forget, cX0_forget, 2, some .int, [])
theorem wX0_forget : mword mX0_forget ∈ lw_all := by
  show (if ([] : List (Nat × Nat × Nat × Nat)) = [] then _ else _) ∈ lw_all
  rw [if_pos rfl]
  exact q1012
theorem kX0_forget : Cal mX0_forget := ⟨wX0_forget, q90, Nat.le_of_ble_eq_true rfl, by decide +kernel⟩
theorem nX0_forget : argN mX0_forget 0 := by unfold argN; decide +kernel
theorem hX0_forget : notMH (my mX0_forget).cls := ⟨by decide +kernel, by decide +kernel⟩
def mX0_were : MD := (yX0_were, cX0_were, 2, some .int, [])
theorem wX0_were : mword mX0_were ∈ lw_all := by
  show (if ([] : List (Nat × Nat × Nat × Nat)) = [] then _ else _) ∈ lw_all
  rw [if_pos rfl]
  exact q1017
theorem kX0_were : Cal mX0_were := ⟨wX0_were, q90, Nat.le_of_ble_eq_true rfl, by decide +kernel⟩
theorem nX0_were : argN mX0_were 1 := by unfold argN; decide +kernel
theorem hX0_were : notMH (my mX0_were).cls := ⟨by decide +kernel, by decide +kernel⟩
def mX0_wereOf : MD := (yX0_wereOf, cX0_wereOf, 3, some .int, [])
theorem wX0_wereOf : mword mX0_wereOf ∈ lw_all := by
  show (if ([] : List (Nat × Nat × Nat × Nat)) = [] then _ else _) ∈ lw_all
  rw [if_pos rfl]
  exact q1022
theorem kX0_wereOf : Cal mX0_wereOf := ⟨wX0_wereOf, q90, Nat.le_of_ble_eq_true rfl, by decide +kernel⟩
theorem nX0_wereOf : argN mX0_wereOf 1 := by unfold argN; decide +kernel
theorem hX0_wereOf : notMH (my mX0_wereOf).cls := ⟨by decide +kernel, by decide +kernel⟩
def mX0_findBeen : MD := (yX0_findBeen, cX0_findBeen, 5, some .int, [])
theorem wX0_findBeen : mword mX0_findBeen ∈ lw_all := by
  show (if ([] : List (Nat × Nat × Nat × Nat)) = [] then _ else _) ∈ lw_all
  rw [if_pos rfl]
  exact q1026
theorem kX0_findBeen : Cal mX0_findBeen := ⟨wX0_findBeen, q90, Nat.le_of_ble_eq_true rfl, by decide +kernel⟩
theorem nX0_findBeen : argN mX0_findBeen 0 := by unfold argN; decide +kernel
theorem hX0_findBeen : notMH (my mX0_findBeen).cls := ⟨by decide +kernel, by decide +kernel⟩
def mX0_fits : MD := (yX0_fits, cX0_fits, 4, some .boolean, [])
theorem wX0_fits : mword mX0_fits ∈ lw_all := by
  show (if ([] : List (Nat × Nat × Nat × Nat)) = [] then _ else _) ∈ lw_all
  rw [if_pos rfl]
  exact q1030
theorem kX0_fits : Cal mX0_fits := ⟨wX0_fits, q90, Nat.le_of_ble_eq_true rfl, by decide +kernel⟩
theorem nX0_fits : argN mX0_fits 1 := by unfold argN; decide +kernel
theorem hX0_fits : notMH (my mX0_fits).cls := ⟨by decide +kernel, by decide +kernel⟩
def mX0_bed : MD := (yX0_bed, cX0_bed, 1, some .int, [])
theorem wX0_bed : mword mX0_bed ∈ lw_all := by
  show (if ([] : List (Nat × Nat × Nat × Nat)) = [] then _ else _) ∈ lw_all
  rw [if_pos rfl]
  exact q1036
theorem kX0_bed : Cal mX0_bed := ⟨wX0_bed, q90, Nat.le_of_ble_eq_true rfl, by decide +kernel⟩
theorem nX0_bed : argN mX0_bed 0 := by unfold argN; decide +kernel
theorem hX0_bed : notMH (my mX0_bed).cls := ⟨by decide +kernel, by decide +kernel⟩
def mX0_bedNow : MD := (yX0_bedNow, cX0_bedNow, 3, some .int, [])
theorem wX0_bedNow : mword mX0_bedNow ∈ lw_all := by
  show (if ([] : List (Nat × Nat × Nat × Nat)) = [] then _ else _) ∈ lw_all
  rw [if_pos rfl]
  exact q1040
theorem kX0_bedNow : Cal mX0_bedNow := ⟨wX0_bedNow, q90, Nat.le_of_ble_eq_true rfl, by decide +kernel⟩
theorem nX0_bedNow : argN mX0_bedNow 0 := by unfold argN; decide +kernel
theorem hX0_bedNow : notMH (my mX0_bedNow).cls := ⟨by decide +kernel, by decide +kernel⟩
def mX0_sheet : MD := (yX0_sheet, cX0_sheet, 5, some .int, [(28, 43, 44, 394)])
theorem wX0_sheet : mword mX0_sheet ∈ lw_all := by
  show (if ([(28, 43, 44, 394)] : List (Nat × Nat × Nat × Nat)) = [] then _ else _) ∈ lw_all
  rw [if_neg (by decide)]
  exact q1044
theorem kX0_sheet : Cal mX0_sheet := ⟨wX0_sheet, q90, Nat.le_of_ble_eq_true rfl, by decide +kernel⟩
theorem nX0_sheet : argN mX0_sheet 3 := by unfold argN; decide +kernel
theorem hX0_sheet : notMH (my mX0_sheet).cls := ⟨by decide +kernel, by decide +kernel⟩
def mX0_rowOf : MD := (yX0_rowOf, cX0_rowOf, 2, some (.object "java/lang/Object"), [])
theorem wX0_rowOf : mword mX0_rowOf ∈ lw_all := by
  show (if ([] : List (Nat × Nat × Nat × Nat)) = [] then _ else _) ∈ lw_all
  rw [if_pos rfl]
  exact q1077
theorem kX0_rowOf : Cal mX0_rowOf := ⟨wX0_rowOf, q90, Nat.le_of_ble_eq_true rfl, by decide +kernel⟩
theorem nX0_rowOf : argN mX0_rowOf 2 := by unfold argN; decide +kernel
theorem hX0_rowOf : notMH (my mX0_rowOf).cls := ⟨by decide +kernel, by decide +kernel⟩
def mX0_lose : MD := (yX0_lose, cX0_lose, 3, some .int, [])
theorem wX0_lose : mword mX0_lose ∈ lw_all := by
  show (if ([] : List (Nat × Nat × Nat × Nat)) = [] then _ else _) ∈ lw_all
  rw [if_pos rfl]
  exact q1082
theorem kX0_lose : Cal mX0_lose := ⟨wX0_lose, q90, Nat.le_of_ble_eq_true rfl, by decide +kernel⟩
theorem nX0_lose : argN mX0_lose 1 := by unfold argN; decide +kernel
theorem hX0_lose : notMH (my mX0_lose).cls := ⟨by decide +kernel, by decide +kernel⟩
def mX0_put : MD := (yX0_put, cX0_put, 6, some .int, [(40, 54, 55, 400), (40, 54, 63, 402)])
theorem wX0_put : mword mX0_put ∈ lw_all := by
  show (if ([(40, 54, 55, 400), (40, 54, 63, 402)] : List (Nat × Nat × Nat × Nat)) = [] then _ else _) ∈ lw_all
  rw [if_neg (by decide)]
  exact q1086
theorem kX0_put : Cal mX0_put := ⟨wX0_put, q90, Nat.le_of_ble_eq_true rfl, by decide +kernel⟩
theorem nX0_put : argN mX0_put 4 := by unfold argN; decide +kernel
theorem hX0_put : notMH (my mX0_put).cls := ⟨by decide +kernel, by decide +kernel⟩
def mX0_get : MD := (yX0_get, cX0_get, 5, some .int, [(40, 51, 52, 400), (40, 51, 60, 402)])
theorem wX0_get : mword mX0_get ∈ lw_all := by
  show (if ([(40, 51, 52, 400), (40, 51, 60, 402)] : List (Nat × Nat × Nat × Nat)) = [] then _ else _) ∈ lw_all
  rw [if_neg (by decide)]
  exact q1127
theorem kX0_get : Cal mX0_get := ⟨wX0_get, q90, Nat.le_of_ble_eq_true rfl, by decide +kernel⟩
theorem nX0_get : argN mX0_get 3 := by unfold argN; decide +kernel
theorem hX0_get : notMH (my mX0_get).cls := ⟨by decide +kernel, by decide +kernel⟩
def mX0_lowest : MD := (yX0_lowest, cX0_lowest, 2, some .int, [])
theorem wX0_lowest : mword mX0_lowest ∈ lw_all := by
  show (if ([] : List (Nat × Nat × Nat × Nat)) = [] then _ else _) ∈ lw_all
  rw [if_pos rfl]
  exact q1132
theorem kX0_lowest : Cal mX0_lowest := ⟨wX0_lowest, q90, Nat.le_of_ble_eq_true rfl, by decide +kernel⟩
theorem nX0_lowest : argN mX0_lowest 1 := by unfold argN; decide +kernel
theorem hX0_lowest : notMH (my mX0_lowest).cls := ⟨by decide +kernel, by decide +kernel⟩
def mX0_copy : MD := (yX0_copy, cX0_copy, 7, some .int, [(74, 101, 102, 407)])
theorem wX0_copy : mword mX0_copy ∈ lw_all := by
  show (if ([(74, 101, 102, 407)] : List (Nat × Nat × Nat × Nat)) = [] then _ else _) ∈ lw_all
  rw [if_neg (by decide)]
  exact q1136
theorem kX0_copy : Cal mX0_copy := ⟨wX0_copy, q90, Nat.le_of_ble_eq_true rfl, by decide +kernel⟩
theorem nX0_copy : argN mX0_copy 5 := by unfold argN; decide +kernel
theorem hX0_copy : notMH (my mX0_copy).cls := ⟨by decide +kernel, by decide +kernel⟩
def mX0_write : MD := (yX0_write, cX0_write, 5, some .int, [])
theorem wX0_write : mword mX0_write ∈ lw_all := by
  show (if ([] : List (Nat × Nat × Nat × Nat)) = [] then _ else _) ∈ lw_all
  rw [if_pos rfl]
  exact q1141
theorem kX0_write : Cal mX0_write := ⟨wX0_write, q90, Nat.le_of_ble_eq_true rfl, by decide +kernel⟩
theorem nX0_write : argN mX0_write 1 := by unfold argN; decide +kernel
theorem hX0_write : notMH (my mX0_write).cls := ⟨by decide +kernel, by decide +kernel⟩
def mX0_count : MD := (yX0_count, cX0_count, 4, some .int, [])
theorem wX0_count : mword mX0_count ∈ lw_all := by
  show (if ([] : List (Nat × Nat × Nat × Nat)) = [] then _ else _) ∈ lw_all
  rw [if_pos rfl]
  exact q1145
theorem kX0_count : Cal mX0_count := ⟨wX0_count, q90, Nat.le_of_ble_eq_true rfl, by decide +kernel⟩
theorem nX0_count : argN mX0_count 1 := by unfold argN; decide +kernel
theorem hX0_count : notMH (my mX0_count).cls := ⟨by decide +kernel, by decide +kernel⟩
def mX0_digest : MD := (yX0_digest, cX0_digest, 5, some .long, [])
theorem wX0_digest : mword mX0_digest ∈ lw_all := by
  show (if ([] : List (Nat × Nat × Nat × Nat)) = [] then _ else _) ∈ lw_all
  rw [if_pos rfl]
  exact q1158
theorem kX0_digest : Cal mX0_digest := ⟨wX0_digest, q90, Nat.le_of_ble_eq_true rfl, by decide +kernel⟩
theorem nX0_digest : argN mX0_digest 0 := by unfold argN; decide +kernel
theorem hX0_digest : notMH (my mX0_digest).cls := ⟨by decide +kernel, by decide +kernel⟩
def mX1_init : MD := (yX1_init, cX1_init, 2, none, [])
theorem wX1_init : mword mX1_init ∈ lw_all := by
  show (if ([] : List (Nat × Nat × Nat × Nat)) = [] then _ else _) ∈ lw_all
  rw [if_pos rfl]
  exact q134
theorem kX1_init : Cal mX1_init := ⟨wX1_init, q91, Nat.le_of_ble_eq_true rfl, by decide +kernel⟩
theorem nX1_init : argN mX1_init 1 := by unfold argN; decide +kernel
theorem hX1_init : notMH (my mX1_init).cls := ⟨by decide +kernel, by decide +kernel⟩
def mX1_type : MD := (yX1_type, cX1_type, 2, some .int, [])
theorem wX1_type : mword mX1_type ∈ lw_all := by
  show (if ([] : List (Nat × Nat × Nat × Nat)) = [] then _ else _) ∈ lw_all
  rw [if_pos rfl]
  exact q347
theorem kX1_type : Cal mX1_type := ⟨wX1_type, q91, Nat.le_of_ble_eq_true rfl, by decide +kernel⟩
theorem nX1_type : argN mX1_type 1 := by unfold argN; decide +kernel
theorem hX1_type : notMH (my mX1_type).cls := ⟨by decide +kernel, by decide +kernel⟩
def mX1_wipe : MD := (yX1_wipe, cX1_wipe, 2, some .int, [])
theorem wX1_wipe : mword mX1_wipe ∈ lw_all := by
  show (if ([] : List (Nat × Nat × Nat × Nat)) = [] then _ else _) ∈ lw_all
  rw [if_pos rfl]
  exact q360
theorem kX1_wipe : Cal mX1_wipe := ⟨wX1_wipe, q91, Nat.le_of_ble_eq_true rfl, by decide +kernel⟩
theorem nX1_wipe : argN mX1_wipe 0 := by unfold argN; decide +kernel
theorem hX1_wipe : notMH (my mX1_wipe).cls := ⟨by decide +kernel, by decide +kernel⟩
def mX1_read : MD := (yX1_read, cX1_read, 1, some .int, [])
theorem wX1_read : mword mX1_read ∈ lw_all := by
  show (if ([] : List (Nat × Nat × Nat × Nat)) = [] then _ else _) ∈ lw_all
  rw [if_pos rfl]
  exact q377
theorem kX1_read : Cal mX1_read := ⟨wX1_read, q91, Nat.le_of_ble_eq_true rfl, by decide +kernel⟩
theorem nX1_read : argN mX1_read 0 := by unfold argN; decide +kernel
theorem hX1_read : notMH (my mX1_read).cls := ⟨by decide +kernel, by decide +kernel⟩
def mX1_all : MD := (yX1_all, cX1_all, 2, some .int, [(12, 31, 32, 33)])
theorem wX1_all : mword mX1_all ∈ lw_all := by
  show (if ([(12, 31, 32, 33)] : List (Nat × Nat × Nat × Nat)) = [] then _ else _) ∈ lw_all
  rw [if_neg (by decide)]
  exact q381
theorem kX1_all : Cal mX1_all := ⟨wX1_all, q91, Nat.le_of_ble_eq_true rfl, by decide +kernel⟩
theorem nX1_all : argN mX1_all 0 := by unfold argN; decide +kernel
theorem hX1_all : notMH (my mX1_all).cls := ⟨by decide +kernel, by decide +kernel⟩
def mX1_next : MD := (yX1_next, cX1_next, 1, none, [])
theorem wX1_next : mword mX1_next ∈ lw_all := by
  show (if ([] : List (Nat × Nat × Nat × Nat)) = [] then _ else _) ∈ lw_all
  rw [if_pos rfl]
  exact q390
theorem kX1_next : Cal mX1_next := ⟨wX1_next, q91, Nat.le_of_ble_eq_true rfl, by decide +kernel⟩
theorem nX1_next : argN mX1_next 0 := by unfold argN; decide +kernel
theorem hX1_next : notMH (my mX1_next).cls := ⟨by decide +kernel, by decide +kernel⟩
def mX1_here : MD := (yX1_here, cX1_here, 1, some .int, [])
theorem wX1_here : mword mX1_here ∈ lw_all := by
  show (if ([] : List (Nat × Nat × Nat × Nat)) = [] then _ else _) ∈ lw_all
  rw [if_pos rfl]
  exact q409
theorem kX1_here : Cal mX1_here := ⟨wX1_here, q91, Nat.le_of_ble_eq_true rfl, by decide +kernel⟩
theorem nX1_here : argN mX1_here 0 := by unfold argN; decide +kernel
theorem hX1_here : notMH (my mX1_here).cls := ⟨by decide +kernel, by decide +kernel⟩
def mX1_torn : MD := (yX1_torn, cX1_torn, 1, some (.object "SoldWithIt$Torn"), [])
theorem wX1_torn : mword mX1_torn ∈ lw_all := by
  show (if ([] : List (Nat × Nat × Nat × Nat)) = [] then _ else _) ∈ lw_all
  rw [if_pos rfl]
  exact q415
theorem kX1_torn : Cal mX1_torn := ⟨wX1_torn, q91, Nat.le_of_ble_eq_true rfl, by decide +kernel⟩
theorem nX1_torn : argN mX1_torn 0 := by unfold argN; decide +kernel
theorem hX1_torn : notMH (my mX1_torn).cls := ⟨by decide +kernel, by decide +kernel⟩
def mX1_goesOn : MD := (yX1_goesOn, cX1_goesOn, 1, none, [])
theorem wX1_goesOn : mword mX1_goesOn ∈ lw_all := by
  show (if ([] : List (Nat × Nat × Nat × Nat)) = [] then _ else _) ∈ lw_all
  rw [if_pos rfl]
  exact q508
theorem kX1_goesOn : Cal mX1_goesOn := ⟨wX1_goesOn, q91, Nat.le_of_ble_eq_true rfl, by decide +kernel⟩
theorem nX1_goesOn : argN mX1_goesOn 0 := by unfold argN; decide +kernel
theorem hX1_goesOn : notMH (my mX1_goesOn).cls := ⟨by decide +kernel, by decide +kernel⟩
def mX1_figure : MD := (yX1_figure, cX1_figure, 3, some .int, [])
theorem wX1_figure : mword mX1_figure ∈ lw_all := by
  show (if ([] : List (Nat × Nat × Nat × Nat)) = [] then _ else _) ∈ lw_all
  rw [if_pos rfl]
  exact q516
theorem kX1_figure : Cal mX1_figure := ⟨wX1_figure, q91, Nat.le_of_ble_eq_true rfl, by decide +kernel⟩
theorem nX1_figure : argN mX1_figure 1 := by unfold argN; decide +kernel
theorem hX1_figure : notMH (my mX1_figure).cls := ⟨by decide +kernel, by decide +kernel⟩
def mX1_size : MD := (yX1_size, cX1_size, 1, some .int, [])
theorem wX1_size : mword mX1_size ∈ lw_all := by
  show (if ([] : List (Nat × Nat × Nat × Nat)) = [] then _ else _) ∈ lw_all
  rw [if_pos rfl]
  exact q640
theorem kX1_size : Cal mX1_size := ⟨wX1_size, q91, Nat.le_of_ble_eq_true rfl, by decide +kernel⟩
theorem nX1_size : argN mX1_size 0 := by unfold argN; decide +kernel
theorem hX1_size : notMH (my mX1_size).cls := ⟨by decide +kernel, by decide +kernel⟩
def mX1_thing : MD := (yX1_thing, cX1_thing, 2, some (.object "java/lang/Object"), [])
theorem wX1_thing : mword mX1_thing ∈ lw_all := by
  show (if ([] : List (Nat × Nat × Nat × Nat)) = [] then _ else _) ∈ lw_all
  rw [if_pos rfl]
  exact q656
theorem kX1_thing : Cal mX1_thing := ⟨wX1_thing, q91, Nat.le_of_ble_eq_true rfl, by decide +kernel⟩
theorem nX1_thing : argN mX1_thing 1 := by unfold argN; decide +kernel
theorem hX1_thing : notMH (my mX1_thing).cls := ⟨by decide +kernel, by decide +kernel⟩
def mX1_length : MD := (yX1_length, cX1_length, 1, some .int, [])
theorem wX1_length : mword mX1_length ∈ lw_all := by
  show (if ([] : List (Nat × Nat × Nat × Nat)) = [] then _ else _) ∈ lw_all
  rw [if_pos rfl]
  exact q1151
theorem kX1_length : Cal mX1_length := ⟨wX1_length, q91, Nat.le_of_ble_eq_true rfl, by decide +kernel⟩
theorem nX1_length : argN mX1_length 0 := by unfold argN; decide +kernel
theorem hX1_length : notMH (my mX1_length).cls := ⟨by decide +kernel, by decide +kernel⟩
def mX2_init : MD := (yX2_init, cX2_init, 1, none, [])
theorem wX2_init : mword mX2_init ∈ lw_all := by
  show (if ([] : List (Nat × Nat × Nat × Nat)) = [] then _ else _) ∈ lw_all
  rw [if_pos rfl]
  exact q131
theorem kX2_init : Cal mX2_init := ⟨wX2_init, q92, Nat.le_of_ble_eq_true rfl, by decide +kernel⟩
theorem nX2_init : argN mX2_init 0 := by unfold argN; decide +kernel
theorem hX2_init : notMH (my mX2_init).cls := ⟨by decide +kernel, by decide +kernel⟩
def mX2_between : MD := (yX2_between, cX2_between, 1, some .int, [])
theorem wX2_between : mword mX2_between ∈ lw_all := by
  show (if ([] : List (Nat × Nat × Nat × Nat)) = [] then _ else _) ∈ lw_all
  rw [if_pos rfl]
  exact q403
theorem kX2_between : Cal mX2_between := ⟨wX2_between, q92, Nat.le_of_ble_eq_true rfl, by decide +kernel⟩
theorem nX2_between : argN mX2_between 0 := by unfold argN; decide +kernel
theorem hX2_between : notMH (my mX2_between).cls := ⟨by decide +kernel, by decide +kernel⟩
def mX2_reads : MD := (yX2_reads, cX2_reads, 1, some (.object "java/lang/Object"), [])
theorem wX2_reads : mword mX2_reads ∈ lw_all := by
  show (if ([] : List (Nat × Nat × Nat × Nat)) = [] then _ else _) ∈ lw_all
  rw [if_pos rfl]
  exact q533
theorem kX2_reads : Cal mX2_reads := ⟨wX2_reads, q92, Nat.le_of_ble_eq_true rfl, by decide +kernel⟩
theorem nX2_reads : argN mX2_reads 0 := by unfold argN; decide +kernel
theorem hX2_reads : notMH (my mX2_reads).cls := ⟨by decide +kernel, by decide +kernel⟩
def mX2_reads_2 : MD := (yX2_reads_2, cX2_reads_2, 2, some (.object "SoldWithIt$House"), [])
theorem wX2_reads_2 : mword mX2_reads_2 ∈ lw_all := by
  show (if ([] : List (Nat × Nat × Nat × Nat)) = [] then _ else _) ∈ lw_all
  rw [if_pos rfl]
  exact q537
theorem kX2_reads_2 : Cal mX2_reads_2 := ⟨wX2_reads_2, q92, Nat.le_of_ble_eq_true rfl, by decide +kernel⟩
theorem nX2_reads_2 : argN mX2_reads_2 0 := by unfold argN; decide +kernel
theorem hX2_reads_2 : notMH (my mX2_reads_2).cls := ⟨by decide +kernel, by decide +kernel⟩
def mJ0_init : MD := (yJ0_init, cJ0_init, 1, none, [])
theorem wJ0_init : mword mJ0_init ∈ lw_all := by
  show (if ([] : List (Nat × Nat × Nat × Nat)) = [] then _ else _) ∈ lw_all
  rw [if_pos rfl]
  exact q146
theorem kJ0_init : Cal mJ0_init := ⟨wJ0_init, q93, Nat.le_of_ble_eq_true rfl, by decide +kernel⟩
theorem nJ0_init : argN mJ0_init 0 := by unfold argN; decide +kernel
theorem hJ0_init : notMH (my mJ0_init).cls := ⟨by decide +kernel, by decide +kernel⟩
def mJ1_init : MD := (yJ1_init, cJ1_init, 1, none, [])
theorem wJ1_init : mword mJ1_init ∈ lw_all := by
  show (if ([] : List (Nat × Nat × Nat × Nat)) = [] then _ else _) ∈ lw_all
  rw [if_pos rfl]
  exact q143
theorem kJ1_init : Cal mJ1_init := ⟨wJ1_init, q94, Nat.le_of_ble_eq_true rfl, by decide +kernel⟩
theorem nJ1_init : argN mJ1_init 0 := by unfold argN; decide +kernel
theorem hJ1_init : notMH (my mJ1_init).cls := ⟨by decide +kernel, by decide +kernel⟩
def mJ2_init : MD := (yJ2_init, cJ2_init, 1, none, [])
theorem wJ2_init : mword mJ2_init ∈ lw_all := by
  show (if ([] : List (Nat × Nat × Nat × Nat)) = [] then _ else _) ∈ lw_all
  rw [if_pos rfl]
  exact q140
theorem kJ2_init : Cal mJ2_init := ⟨wJ2_init, q95, Nat.le_of_ble_eq_true rfl, by decide +kernel⟩
theorem nJ2_init : argN mJ2_init 0 := by unfold argN; decide +kernel
theorem hJ2_init : notMH (my mJ2_init).cls := ⟨by decide +kernel, by decide +kernel⟩
def mJ2_clear : MD := (yJ2_clear, cJ2_clear, 4, none, [])
theorem wJ2_clear : mword mJ2_clear ∈ lw_all := by
  show (if ([] : List (Nat × Nat × Nat × Nat)) = [] then _ else _) ∈ lw_all
  rw [if_pos rfl]
  exact q386
theorem kJ2_clear : Cal mJ2_clear := ⟨wJ2_clear, q95, Nat.le_of_ble_eq_true rfl, by decide +kernel⟩
theorem nJ2_clear : argN mJ2_clear 0 := by unfold argN; decide +kernel
theorem hJ2_clear : notMH (my mJ2_clear).cls := ⟨by decide +kernel, by decide +kernel⟩
def mJ2_isEmpty : MD := (yJ2_isEmpty, cJ2_isEmpty, 1, some .boolean, [])
theorem wJ2_isEmpty : mword mJ2_isEmpty ∈ lw_all := by
  show (if ([] : List (Nat × Nat × Nat × Nat)) = [] then _ else _) ∈ lw_all
  rw [if_pos rfl]
  exact q394
theorem kJ2_isEmpty : Cal mJ2_isEmpty := ⟨wJ2_isEmpty, q95, Nat.le_of_ble_eq_true rfl, by decide +kernel⟩
theorem nJ2_isEmpty : argN mJ2_isEmpty 0 := by unfold argN; decide +kernel
theorem hJ2_isEmpty : notMH (my mJ2_isEmpty).cls := ⟨by decide +kernel, by decide +kernel⟩
def mJ2_size : MD := (yJ2_size, cJ2_size, 1, some .int, [])
theorem wJ2_size : mword mJ2_size ∈ lw_all := by
  show (if ([] : List (Nat × Nat × Nat × Nat)) = [] then _ else _) ∈ lw_all
  rw [if_pos rfl]
  exact q484
theorem kJ2_size : Cal mJ2_size := ⟨wJ2_size, q95, Nat.le_of_ble_eq_true rfl, by decide +kernel⟩
theorem nJ2_size : argN mJ2_size 0 := by unfold argN; decide +kernel
theorem hJ2_size : notMH (my mJ2_size).cls := ⟨by decide +kernel, by decide +kernel⟩
def mJ2_add : MD := (yJ2_add, cJ2_add, 2, some .boolean, [])
theorem wJ2_add : mword mJ2_add ∈ lw_all := by
  show (if ([] : List (Nat × Nat × Nat × Nat)) = [] then _ else _) ∈ lw_all
  rw [if_pos rfl]
  exact q562
theorem kJ2_add : Cal mJ2_add := ⟨wJ2_add, q95, Nat.le_of_ble_eq_true rfl, by decide +kernel⟩
theorem nJ2_add : argN mJ2_add 1 := by unfold argN; decide +kernel
theorem hJ2_add : notMH (my mJ2_add).cls := ⟨by decide +kernel, by decide +kernel⟩
def mJ2_add_2 : MD := (yJ2_add_2, cJ2_add_2, 4, none, [])
theorem wJ2_add_2 : mword mJ2_add_2 ∈ lw_all := by
  show (if ([] : List (Nat × Nat × Nat × Nat)) = [] then _ else _) ∈ lw_all
  rw [if_pos rfl]
  exact q566
theorem kJ2_add_2 : Cal mJ2_add_2 := ⟨wJ2_add_2, q95, Nat.le_of_ble_eq_true rfl, by decide +kernel⟩
theorem nJ2_add_2 : argN mJ2_add_2 3 := by unfold argN; decide +kernel
theorem hJ2_add_2 : notMH (my mJ2_add_2).cls := ⟨by decide +kernel, by decide +kernel⟩
def mJ2_grow : MD := (yJ2_grow, cJ2_grow, 1, some (.array (.object "java/lang/Object")), [])
theorem wJ2_grow : mword mJ2_grow ∈ lw_all := by
  show (if ([] : List (Nat × Nat × Nat × Nat)) = [] then _ else _) ∈ lw_all
  rw [if_pos rfl]
  exact q570
theorem kJ2_grow : Cal mJ2_grow := ⟨wJ2_grow, q95, Nat.le_of_ble_eq_true rfl, by decide +kernel⟩
theorem nJ2_grow : argN mJ2_grow 0 := by unfold argN; decide +kernel
theorem hJ2_grow : notMH (my mJ2_grow).cls := ⟨by decide +kernel, by decide +kernel⟩
def mJ2_grow_2 : MD := (yJ2_grow_2, cJ2_grow_2, 4, some (.array (.object "java/lang/Object")), [])
theorem wJ2_grow_2 : mword mJ2_grow_2 ∈ lw_all := by
  show (if ([] : List (Nat × Nat × Nat × Nat)) = [] then _ else _) ∈ lw_all
  rw [if_pos rfl]
  exact q574
theorem kJ2_grow_2 : Cal mJ2_grow_2 := ⟨wJ2_grow_2, q95, Nat.le_of_ble_eq_true rfl, by decide +kernel⟩
theorem nJ2_grow_2 : argN mJ2_grow_2 1 := by unfold argN; decide +kernel
theorem hJ2_grow_2 : notMH (my mJ2_grow_2).cls := ⟨by decide +kernel, by decide +kernel⟩
def mJ2_get : MD := (yJ2_get, cJ2_get, 2, some (.object "java/lang/Object"), [])
theorem wJ2_get : mword mJ2_get ∈ lw_all := by
  show (if ([] : List (Nat × Nat × Nat × Nat)) = [] then _ else _) ∈ lw_all
  rw [if_pos rfl]
  exact q660
theorem kJ2_get : Cal mJ2_get := ⟨wJ2_get, q95, Nat.le_of_ble_eq_true rfl, by decide +kernel⟩
theorem nJ2_get : argN mJ2_get 1 := by unfold argN; decide +kernel
theorem hJ2_get : notMH (my mJ2_get).cls := ⟨by decide +kernel, by decide +kernel⟩
def mJ2_elementData : MD := (yJ2_elementData, cJ2_elementData, 2, some (.object "java/lang/Object"), [])
theorem wJ2_elementData : mword mJ2_elementData ∈ lw_all := by
  show (if ([] : List (Nat × Nat × Nat × Nat)) = [] then _ else _) ∈ lw_all
  rw [if_pos rfl]
  exact q670
theorem kJ2_elementData : Cal mJ2_elementData := ⟨wJ2_elementData, q95, Nat.le_of_ble_eq_true rfl, by decide +kernel⟩
theorem nJ2_elementData : argN mJ2_elementData 1 := by unfold argN; decide +kernel
theorem hJ2_elementData : notMH (my mJ2_elementData).cls := ⟨by decide +kernel, by decide +kernel⟩
def mX3_init : MD := (yX3_init, cX3_init, 1, none, [])
theorem wX3_init : mword mX3_init ∈ lw_all := by
  show (if ([] : List (Nat × Nat × Nat × Nat)) = [] then _ else _) ∈ lw_all
  rw [if_pos rfl]
  exact q186
theorem kX3_init : Cal mX3_init := ⟨wX3_init, q96, Nat.le_of_ble_eq_true rfl, by decide +kernel⟩
theorem nX3_init : argN mX3_init 0 := by unfold argN; decide +kernel
theorem hX3_init : notMH (my mX3_init).cls := ⟨by decide +kernel, by decide +kernel⟩
def mX3_between : MD := (yX3_between, cX3_between, 1, some .int, [])
theorem wX3_between : mword mX3_between ∈ lw_all := by
  show (if ([] : List (Nat × Nat × Nat × Nat)) = [] then _ else _) ∈ lw_all
  rw [if_pos rfl]
  exact q400
theorem kX3_between : Cal mX3_between := ⟨wX3_between, q96, Nat.le_of_ble_eq_true rfl, by decide +kernel⟩
theorem nX3_between : argN mX3_between 0 := by unfold argN; decide +kernel
theorem hX3_between : notMH (my mX3_between).cls := ⟨by decide +kernel, by decide +kernel⟩
def mX3_reads : MD := (yX3_reads, cX3_reads, 1, some (.object "java/lang/Object"), [])
theorem wX3_reads : mword mX3_reads ∈ lw_all := by
  show (if ([] : List (Nat × Nat × Nat × Nat)) = [] then _ else _) ∈ lw_all
  rw [if_pos rfl]
  exact q490
theorem kX3_reads : Cal mX3_reads := ⟨wX3_reads, q96, Nat.le_of_ble_eq_true rfl, by decide +kernel⟩
theorem nX3_reads : argN mX3_reads 0 := by unfold argN; decide +kernel
theorem hX3_reads : notMH (my mX3_reads).cls := ⟨by decide +kernel, by decide +kernel⟩
def mX3_reads_2 : MD := (yX3_reads_2, cX3_reads_2, 3, some (.object "SoldWithIt$Person"), [])
theorem wX3_reads_2 : mword mX3_reads_2 ∈ lw_all := by
  show (if ([] : List (Nat × Nat × Nat × Nat)) = [] then _ else _) ∈ lw_all
  rw [if_pos rfl]
  exact q494
theorem kX3_reads_2 : Cal mX3_reads_2 := ⟨wX3_reads_2, q96, Nat.le_of_ble_eq_true rfl, by decide +kernel⟩
theorem nX3_reads_2 : argN mX3_reads_2 0 := by unfold argN; decide +kernel
theorem hX3_reads_2 : notMH (my mX3_reads_2).cls := ⟨by decide +kernel, by decide +kernel⟩
def mX4_init : MD := (yX4_init, cX4_init, 2, none, [])
theorem wX4_init : mword mX4_init ∈ lw_all := by
  show (if ([] : List (Nat × Nat × Nat × Nat)) = [] then _ else _) ∈ lw_all
  rw [if_pos rfl]
  exact q199
theorem kX4_init : Cal mX4_init := ⟨wX4_init, q97, Nat.le_of_ble_eq_true rfl, by decide +kernel⟩
theorem nX4_init : argN mX4_init 1 := by unfold argN; decide +kernel
theorem hX4_init : notMH (my mX4_init).cls := ⟨by decide +kernel, by decide +kernel⟩
def mX4_begins : MD := (yX4_begins, cX4_begins, 2, some (.object "SoldWithIt$Noon"), [])
theorem wX4_begins : mword mX4_begins ∈ lw_all := by
  show (if ([] : List (Nat × Nat × Nat × Nat)) = [] then _ else _) ∈ lw_all
  rw [if_pos rfl]
  exact q774
theorem kX4_begins : Cal mX4_begins := ⟨wX4_begins, q97, Nat.le_of_ble_eq_true rfl, by decide +kernel⟩
theorem nX4_begins : argN mX4_begins 0 := by unfold argN; decide +kernel
theorem hX4_begins : notMH (my mX4_begins).cls := ⟨by decide +kernel, by decide +kernel⟩
def mX4_forgets : MD := (yX4_forgets, cX4_forgets, 2, some (.object "SoldWithIt$Noon"), [])
theorem wX4_forgets : mword mX4_forgets ∈ lw_all := by
  show (if ([] : List (Nat × Nat × Nat × Nat)) = [] then _ else _) ∈ lw_all
  rw [if_pos rfl]
  exact q780
theorem kX4_forgets : Cal mX4_forgets := ⟨wX4_forgets, q97, Nat.le_of_ble_eq_true rfl, by decide +kernel⟩
theorem nX4_forgets : argN mX4_forgets 0 := by unfold argN; decide +kernel
theorem hX4_forgets : notMH (my mX4_forgets).cls := ⟨by decide +kernel, by decide +kernel⟩
def mX4_asTold : MD := (yX4_asTold, cX4_asTold, 2, some (.object "SoldWithIt$Noon"), [])
theorem wX4_asTold : mword mX4_asTold ∈ lw_all := by
  show (if ([] : List (Nat × Nat × Nat × Nat)) = [] then _ else _) ∈ lw_all
  rw [if_pos rfl]
  exact q785
theorem kX4_asTold : Cal mX4_asTold := ⟨wX4_asTold, q97, Nat.le_of_ble_eq_true rfl, by decide +kernel⟩
theorem nX4_asTold : argN mX4_asTold 0 := by unfold argN; decide +kernel
theorem hX4_asTold : notMH (my mX4_asTold).cls := ⟨by decide +kernel, by decide +kernel⟩
def mX4_sells : MD := (yX4_sells, cX4_sells, 3, some .int, [])
theorem wX4_sells : mword mX4_sells ∈ lw_all := by
  show (if ([] : List (Nat × Nat × Nat × Nat)) = [] then _ else _) ∈ lw_all
  rw [if_pos rfl]
  exact q795
theorem kX4_sells : Cal mX4_sells := ⟨wX4_sells, q97, Nat.le_of_ble_eq_true rfl, by decide +kernel⟩
theorem nX4_sells : argN mX4_sells 2 := by unfold argN; decide +kernel
theorem hX4_sells : notMH (my mX4_sells).cls := ⟨by decide +kernel, by decide +kernel⟩
def mX4_goes : MD := (yX4_goes, cX4_goes, 5, none, [])
theorem wX4_goes : mword mX4_goes ∈ lw_all := by
  show (if ([] : List (Nat × Nat × Nat × Nat)) = [] then _ else _) ∈ lw_all
  rw [if_pos rfl]
  exact q801
theorem kX4_goes : Cal mX4_goes := ⟨wX4_goes, q97, Nat.le_of_ble_eq_true rfl, by decide +kernel⟩
theorem nX4_goes : argN mX4_goes 2 := by unfold argN; decide +kernel
theorem hX4_goes : notMH (my mX4_goes).cls := ⟨by decide +kernel, by decide +kernel⟩
def mX4_takes : MD := (yX4_takes, cX4_takes, 4, none, [])
theorem wX4_takes : mword mX4_takes ∈ lw_all := by
  show (if ([] : List (Nat × Nat × Nat × Nat)) = [] then _ else _) ∈ lw_all
  rw [if_pos rfl]
  exact q808
theorem kX4_takes : Cal mX4_takes := ⟨wX4_takes, q97, Nat.le_of_ble_eq_true rfl, by decide +kernel⟩
theorem nX4_takes : argN mX4_takes 2 := by unfold argN; decide +kernel
theorem hX4_takes : notMH (my mX4_takes).cls := ⟨by decide +kernel, by decide +kernel⟩
def mX4_gain : MD := (yX4_gain, cX4_gain, 4, some .int, [])
theorem wX4_gain : mword mX4_gain ∈ lw_all := by
  show (if ([] : List (Nat × Nat × Nat × Nat)) = [] then _ else _) ∈ lw_all
  rw [if_pos rfl]
  exact q860
theorem kX4_gain : Cal mX4_gain := ⟨wX4_gain, q97, Nat.le_of_ble_eq_true rfl, by decide +kernel⟩
theorem nX4_gain : argN mX4_gain 1 := by unfold argN; decide +kernel
theorem hX4_gain : notMH (my mX4_gain).cls := ⟨by decide +kernel, by decide +kernel⟩
def mX4_sellsAll : MD := (yX4_sellsAll, cX4_sellsAll, 2, some (.object "SoldWithIt$Noon"), [])
theorem wX4_sellsAll : mword mX4_sellsAll ∈ lw_all := by
  show (if ([] : List (Nat × Nat × Nat × Nat)) = [] then _ else _) ∈ lw_all
  rw [if_pos rfl]
  exact q892
theorem kX4_sellsAll : Cal mX4_sellsAll := ⟨wX4_sellsAll, q97, Nat.le_of_ble_eq_true rfl, by decide +kernel⟩
theorem nX4_sellsAll : argN mX4_sellsAll 0 := by unfold argN; decide +kernel
theorem hX4_sellsAll : notMH (my mX4_sellsAll).cls := ⟨by decide +kernel, by decide +kernel⟩
def mX5_init : MD := (yX5_init, cX5_init, 2, none, [])
theorem wX5_init : mword mX5_init ∈ lw_all := by
  show (if ([] : List (Nat × Nat × Nat × Nat)) = [] then _ else _) ∈ lw_all
  rw [if_pos rfl]
  exact q231
theorem kX5_init : Cal mX5_init := ⟨wX5_init, q98, Nat.le_of_ble_eq_true rfl, by decide +kernel⟩
theorem nX5_init : argN mX5_init 1 := by unfold argN; decide +kernel
theorem hX5_init : notMH (my mX5_init).cls := ⟨by decide +kernel, by decide +kernel⟩
def mX5_runs : MD := (yX5_runs, cX5_runs, 2, some (.object "SoldWithIt$Sales"), [])
theorem wX5_runs : mword mX5_runs ∈ lw_all := by
  show (if ([] : List (Nat × Nat × Nat × Nat)) = [] then _ else _) ∈ lw_all
  rw [if_pos rfl]
  exact q966
theorem kX5_runs : Cal mX5_runs := ⟨wX5_runs, q98, Nat.le_of_ble_eq_true rfl, by decide +kernel⟩
theorem nX5_runs : argN mX5_runs 0 := by unfold argN; decide +kernel
theorem hX5_runs : notMH (my mX5_runs).cls := ⟨by decide +kernel, by decide +kernel⟩
def mX5_told : MD := (yX5_told, cX5_told, 3, some .int, [])
theorem wX5_told : mword mX5_told ∈ lw_all := by
  show (if ([] : List (Nat × Nat × Nat × Nat)) = [] then _ else _) ∈ lw_all
  rw [if_pos rfl]
  exact q970
theorem kX5_told : Cal mX5_told := ⟨wX5_told, q98, Nat.le_of_ble_eq_true rfl, by decide +kernel⟩
theorem nX5_told : argN mX5_told 0 := by unfold argN; decide +kernel
theorem hX5_told : notMH (my mX5_told).cls := ⟨by decide +kernel, by decide +kernel⟩
def mX5_comes : MD := (yX5_comes, cX5_comes, 3, none, [])
theorem wX5_comes : mword mX5_comes ∈ lw_all := by
  show (if ([] : List (Nat × Nat × Nat × Nat)) = [] then _ else _) ∈ lw_all
  rw [if_pos rfl]
  exact q976
theorem kX5_comes : Cal mX5_comes := ⟨wX5_comes, q98, Nat.le_of_ble_eq_true rfl, by decide +kernel⟩
theorem nX5_comes : argN mX5_comes 2 := by unfold argN; decide +kernel
theorem hX5_comes : notMH (my mX5_comes).cls := ⟨by decide +kernel, by decide +kernel⟩
def mX5_goesOn : MD := (yX5_goesOn, cX5_goesOn, 6, none, [])
theorem wX5_goesOn : mword mX5_goesOn ∈ lw_all := by
  show (if ([] : List (Nat × Nat × Nat × Nat)) = [] then _ else _) ∈ lw_all
  rw [if_pos rfl]
  exact q980
theorem kX5_goesOn : Cal mX5_goesOn := ⟨wX5_goesOn, q98, Nat.le_of_ble_eq_true rfl, by decide +kernel⟩
theorem nX5_goesOn : argN mX5_goesOn 1 := by unfold argN; decide +kernel
theorem hX5_goesOn : notMH (my mX5_goesOn).cls := ⟨by decide +kernel, by decide +kernel⟩
def mX6_init : MD := (yX6_init, cX6_init, 1, none, [])
theorem wX6_init : mword mX6_init ∈ lw_all := by
  show (if ([] : List (Nat × Nat × Nat × Nat)) = [] then _ else _) ∈ lw_all
  rw [if_pos rfl]
  exact q254
theorem kX6_init : Cal mX6_init := ⟨wX6_init, q99, Nat.le_of_ble_eq_true rfl, by decide +kernel⟩
theorem nX6_init : argN mX6_init 0 := by unfold argN; decide +kernel
theorem hX6_init : notMH (my mX6_init).cls := ⟨by decide +kernel, by decide +kernel⟩
def mX6_size : MD := (yX6_size, cX6_size, 1, some .int, [])
theorem wX6_size : mword mX6_size ∈ lw_all := by
  show (if ([] : List (Nat × Nat × Nat × Nat)) = [] then _ else _) ∈ lw_all
  rw [if_pos rfl]
  exact q741
theorem kX6_size : Cal mX6_size := ⟨wX6_size, q99, Nat.le_of_ble_eq_true rfl, by decide +kernel⟩
theorem nX6_size : argN mX6_size 0 := by unfold argN; decide +kernel
theorem hX6_size : notMH (my mX6_size).cls := ⟨by decide +kernel, by decide +kernel⟩
def mX6_type : MD := (yX6_type, cX6_type, 1, some .int, [])
theorem wX6_type : mword mX6_type ∈ lw_all := by
  show (if ([] : List (Nat × Nat × Nat × Nat)) = [] then _ else _) ∈ lw_all
  rw [if_pos rfl]
  exact q745
theorem kX6_type : Cal mX6_type := ⟨wX6_type, q99, Nat.le_of_ble_eq_true rfl, by decide +kernel⟩
theorem nX6_type : argN mX6_type 0 := by unfold argN; decide +kernel
theorem hX6_type : notMH (my mX6_type).cls := ⟨by decide +kernel, by decide +kernel⟩
def mX6_item : MD := (yX6_item, cX6_item, 3, some .int, [])
theorem wX6_item : mword mX6_item ∈ lw_all := by
  show (if ([] : List (Nat × Nat × Nat × Nat)) = [] then _ else _) ∈ lw_all
  rw [if_pos rfl]
  exact q753
theorem kX6_item : Cal mX6_item := ⟨wX6_item, q99, Nat.le_of_ble_eq_true rfl, by decide +kernel⟩
theorem nX6_item : argN mX6_item 2 := by unfold argN; decide +kernel
theorem hX6_item : notMH (my mX6_item).cls := ⟨by decide +kernel, by decide +kernel⟩
def mX6_lay : MD := (yX6_lay, cX6_lay, 4, none, [])
theorem wX6_lay : mword mX6_lay ∈ lw_all := by
  show (if ([] : List (Nat × Nat × Nat × Nat)) = [] then _ else _) ∈ lw_all
  rw [if_pos rfl]
  exact q1123
theorem kX6_lay : Cal mX6_lay := ⟨wX6_lay, q99, Nat.le_of_ble_eq_true rfl, by decide +kernel⟩
theorem nX6_lay : argN mX6_lay 3 := by unfold argN; decide +kernel
theorem hX6_lay : notMH (my mX6_lay).cls := ⟨by decide +kernel, by decide +kernel⟩
def mX7_init : MD := (yX7_init, cX7_init, 2, none, [])
theorem wX7_init : mword mX7_init ∈ lw_all := by
  show (if ([] : List (Nat × Nat × Nat × Nat)) = [] then _ else _) ∈ lw_all
  rw [if_pos rfl]
  exact q1166
theorem kX7_init : Cal mX7_init := ⟨wX7_init, q100, Nat.le_of_ble_eq_true rfl, by decide +kernel⟩
theorem nX7_init : argN mX7_init 0 := by unfold argN; decide +kernel
theorem hX7_init : notMH (my mX7_init).cls := ⟨by decide +kernel, by decide +kernel⟩
def mX7_type : MD := (yX7_type, cX7_type, 3, some .int, [])
theorem wX7_type : mword mX7_type ∈ lw_all := by
  show (if ([] : List (Nat × Nat × Nat × Nat)) = [] then _ else _) ∈ lw_all
  rw [if_pos rfl]
  exact q1272
theorem kX7_type : Cal mX7_type := ⟨wX7_type, q100, Nat.le_of_ble_eq_true rfl, by decide +kernel⟩
theorem nX7_type : argN mX7_type 2 := by unfold argN; decide +kernel
theorem hX7_type : notMH (my mX7_type).cls := ⟨by decide +kernel, by decide +kernel⟩
def mX7_in : MD := (yX7_in, cX7_in, 3, some .boolean, [])
theorem wX7_in : mword mX7_in ∈ lw_all := by
  show (if ([] : List (Nat × Nat × Nat × Nat)) = [] then _ else _) ∈ lw_all
  rw [if_pos rfl]
  exact q1275
theorem kX7_in : Cal mX7_in := ⟨wX7_in, q100, Nat.le_of_ble_eq_true rfl, by decide +kernel⟩
theorem nX7_in : argN mX7_in 3 := by unfold argN; decide +kernel
theorem hX7_in : notMH (my mX7_in).cls := ⟨by decide +kernel, by decide +kernel⟩
def mX7_wipe : MD := (yX7_wipe, cX7_wipe, 3, some .int, [])
theorem wX7_wipe : mword mX7_wipe ∈ lw_all := by
  show (if ([] : List (Nat × Nat × Nat × Nat)) = [] then _ else _) ∈ lw_all
  rw [if_pos rfl]
  exact q1279
theorem kX7_wipe : Cal mX7_wipe := ⟨wX7_wipe, q100, Nat.le_of_ble_eq_true rfl, by decide +kernel⟩
theorem nX7_wipe : argN mX7_wipe 1 := by unfold argN; decide +kernel
theorem hX7_wipe : notMH (my mX7_wipe).cls := ⟨by decide +kernel, by decide +kernel⟩
def mX7_fault : MD := (yX7_fault, cX7_fault, 2, some .int, [])
theorem wX7_fault : mword mX7_fault ∈ lw_all := by
  show (if ([] : List (Nat × Nat × Nat × Nat)) = [] then _ else _) ∈ lw_all
  rw [if_pos rfl]
  exact q1283
theorem kX7_fault : Cal mX7_fault := ⟨wX7_fault, q100, Nat.le_of_ble_eq_true rfl, by decide +kernel⟩
theorem nX7_fault : argN mX7_fault 1 := by unfold argN; decide +kernel
theorem hX7_fault : notMH (my mX7_fault).cls := ⟨by decide +kernel, by decide +kernel⟩
def mX7_faultOf : MD := (yX7_faultOf, cX7_faultOf, 2, some .int, [])
theorem wX7_faultOf : mword mX7_faultOf ∈ lw_all := by
  show (if ([] : List (Nat × Nat × Nat × Nat)) = [] then _ else _) ∈ lw_all
  rw [if_pos rfl]
  exact q1287
theorem kX7_faultOf : Cal mX7_faultOf := ⟨wX7_faultOf, q100, Nat.le_of_ble_eq_true rfl, by decide +kernel⟩
theorem nX7_faultOf : argN mX7_faultOf 1 := by unfold argN; decide +kernel
theorem hX7_faultOf : notMH (my mX7_faultOf).cls := ⟨by decide +kernel, by decide +kernel⟩
def mX7_readsHouses : MD := (yX7_readsHouses, cX7_readsHouses, 3, some .int, [])
theorem wX7_readsHouses : mword mX7_readsHouses ∈ lw_all := by
  show (if ([] : List (Nat × Nat × Nat × Nat)) = [] then _ else _) ∈ lw_all
  rw [if_pos rfl]
  exact q1291
theorem kX7_readsHouses : Cal mX7_readsHouses := ⟨wX7_readsHouses, q100, Nat.le_of_ble_eq_true rfl, by decide +kernel⟩
theorem nX7_readsHouses : argN mX7_readsHouses 0 := by unfold argN; decide +kernel
theorem hX7_readsHouses : notMH (my mX7_readsHouses).cls := ⟨by decide +kernel, by decide +kernel⟩
def mX7_byteAt : MD := (yX7_byteAt, cX7_byteAt, 3, some .int, [])
theorem wX7_byteAt : mword mX7_byteAt ∈ lw_all := by
  show (if ([] : List (Nat × Nat × Nat × Nat)) = [] then _ else _) ∈ lw_all
  rw [if_pos rfl]
  exact q1295
theorem kX7_byteAt : Cal mX7_byteAt := ⟨wX7_byteAt, q100, Nat.le_of_ble_eq_true rfl, by decide +kernel⟩
theorem nX7_byteAt : argN mX7_byteAt 2 := by unfold argN; decide +kernel
theorem hX7_byteAt : notMH (my mX7_byteAt).cls := ⟨by decide +kernel, by decide +kernel⟩
def mX7_readsPeople : MD := (yX7_readsPeople, cX7_readsPeople, 5, some .int, [])
theorem wX7_readsPeople : mword mX7_readsPeople ∈ lw_all := by
  show (if ([] : List (Nat × Nat × Nat × Nat)) = [] then _ else _) ∈ lw_all
  rw [if_pos rfl]
  exact q1299
theorem kX7_readsPeople : Cal mX7_readsPeople := ⟨wX7_readsPeople, q100, Nat.le_of_ble_eq_true rfl, by decide +kernel⟩
theorem nX7_readsPeople : argN mX7_readsPeople 0 := by unfold argN; decide +kernel
theorem hX7_readsPeople : notMH (my mX7_readsPeople).cls := ⟨by decide +kernel, by decide +kernel⟩
def mX7_house : MD := (yX7_house, cX7_house, 3, some .int, [])
theorem wX7_house : mword mX7_house ∈ lw_all := by
  show (if ([] : List (Nat × Nat × Nat × Nat)) = [] then _ else _) ∈ lw_all
  rw [if_pos rfl]
  exact q1303
theorem kX7_house : Cal mX7_house := ⟨wX7_house, q100, Nat.le_of_ble_eq_true rfl, by decide +kernel⟩
theorem nX7_house : argN mX7_house 2 := by unfold argN; decide +kernel
theorem hX7_house : notMH (my mX7_house).cls := ⟨by decide +kernel, by decide +kernel⟩
def mX7_isHouse : MD := (yX7_isHouse, cX7_isHouse, 2, some .boolean, [])
theorem wX7_isHouse : mword mX7_isHouse ∈ lw_all := by
  show (if ([] : List (Nat × Nat × Nat × Nat)) = [] then _ else _) ∈ lw_all
  rw [if_pos rfl]
  exact q1307
theorem kX7_isHouse : Cal mX7_isHouse := ⟨wX7_isHouse, q100, Nat.le_of_ble_eq_true rfl, by decide +kernel⟩
theorem nX7_isHouse : argN mX7_isHouse 1 := by unfold argN; decide +kernel
theorem hX7_isHouse : notMH (my mX7_isHouse).cls := ⟨by decide +kernel, by decide +kernel⟩
def mX7_reads : MD := (yX7_reads, cX7_reads, 3, none, [])
theorem wX7_reads : mword mX7_reads ∈ lw_all := by
  show (if ([] : List (Nat × Nat × Nat × Nat)) = [] then _ else _) ∈ lw_all
  rw [if_pos rfl]
  exact q1311
theorem kX7_reads : Cal mX7_reads := ⟨wX7_reads, q100, Nat.le_of_ble_eq_true rfl, by decide +kernel⟩
theorem nX7_reads : argN mX7_reads 0 := by unfold argN; decide +kernel
theorem hX7_reads : notMH (my mX7_reads).cls := ⟨by decide +kernel, by decide +kernel⟩
def mX7_houseOf : MD := (yX7_houseOf, cX7_houseOf, 5, some .int, [])
theorem wX7_houseOf : mword mX7_houseOf ∈ lw_all := by
  show (if ([] : List (Nat × Nat × Nat × Nat)) = [] then _ else _) ∈ lw_all
  rw [if_pos rfl]
  exact q1315
theorem kX7_houseOf : Cal mX7_houseOf := ⟨wX7_houseOf, q100, Nat.le_of_ble_eq_true rfl, by decide +kernel⟩
theorem nX7_houseOf : argN mX7_houseOf 2 := by unfold argN; decide +kernel
theorem hX7_houseOf : notMH (my mX7_houseOf).cls := ⟨by decide +kernel, by decide +kernel⟩
def mX7_person : MD := (yX7_person, cX7_person, 3, some .int, [])
theorem wX7_person : mword mX7_person ∈ lw_all := by
  show (if ([] : List (Nat × Nat × Nat × Nat)) = [] then _ else _) ∈ lw_all
  rw [if_pos rfl]
  exact q1319
theorem kX7_person : Cal mX7_person := ⟨wX7_person, q100, Nat.le_of_ble_eq_true rfl, by decide +kernel⟩
theorem nX7_person : argN mX7_person 2 := by unfold argN; decide +kernel
theorem hX7_person : notMH (my mX7_person).cls := ⟨by decide +kernel, by decide +kernel⟩
def mX7_isPerson : MD := (yX7_isPerson, cX7_isPerson, 2, some .boolean, [])
theorem wX7_isPerson : mword mX7_isPerson ∈ lw_all := by
  show (if ([] : List (Nat × Nat × Nat × Nat)) = [] then _ else _) ∈ lw_all
  rw [if_pos rfl]
  exact q1323
theorem kX7_isPerson : Cal mX7_isPerson := ⟨wX7_isPerson, q100, Nat.le_of_ble_eq_true rfl, by decide +kernel⟩
theorem nX7_isPerson : argN mX7_isPerson 1 := by unfold argN; decide +kernel
theorem hX7_isPerson : notMH (my mX7_isPerson).cls := ⟨by decide +kernel, by decide +kernel⟩
def mX7_personOf : MD := (yX7_personOf, cX7_personOf, 5, some .int, [])
theorem wX7_personOf : mword mX7_personOf ∈ lw_all := by
  show (if ([] : List (Nat × Nat × Nat × Nat)) = [] then _ else _) ∈ lw_all
  rw [if_pos rfl]
  exact q1327
theorem kX7_personOf : Cal mX7_personOf := ⟨wX7_personOf, q100, Nat.le_of_ble_eq_true rfl, by decide +kernel⟩
theorem nX7_personOf : argN mX7_personOf 2 := by unfold argN; decide +kernel
theorem hX7_personOf : notMH (my mX7_personOf).cls := ⟨by decide +kernel, by decide +kernel⟩
def mX7_law : MD := (yX7_law, cX7_law, 4, some .int, [])
theorem wX7_law : mword mX7_law ∈ lw_all := by
  show (if ([] : List (Nat × Nat × Nat × Nat)) = [] then _ else _) ∈ lw_all
  rw [if_pos rfl]
  exact q1331
theorem kX7_law : Cal mX7_law := ⟨wX7_law, q100, Nat.le_of_ble_eq_true rfl, by decide +kernel⟩
theorem nX7_law : argN mX7_law 2 := by unfold argN; decide +kernel
theorem hX7_law : notMH (my mX7_law).cls := ⟨by decide +kernel, by decide +kernel⟩
def mX7_sale : MD := (yX7_sale, cX7_sale, 3, some .int, [])
theorem wX7_sale : mword mX7_sale ∈ lw_all := by
  show (if ([] : List (Nat × Nat × Nat × Nat)) = [] then _ else _) ∈ lw_all
  rw [if_pos rfl]
  exact q1335
theorem kX7_sale : Cal mX7_sale := ⟨wX7_sale, q100, Nat.le_of_ble_eq_true rfl, by decide +kernel⟩
theorem nX7_sale : argN mX7_sale 2 := by unfold argN; decide +kernel
theorem hX7_sale : notMH (my mX7_sale).cls := ⟨by decide +kernel, by decide +kernel⟩
def mX7_saleMore : MD := (yX7_saleMore, cX7_saleMore, 3, some .int, [])
theorem wX7_saleMore : mword mX7_saleMore ∈ lw_all := by
  show (if ([] : List (Nat × Nat × Nat × Nat)) = [] then _ else _) ∈ lw_all
  rw [if_pos rfl]
  exact q1339
theorem kX7_saleMore : Cal mX7_saleMore := ⟨wX7_saleMore, q100, Nat.le_of_ble_eq_true rfl, by decide +kernel⟩
theorem nX7_saleMore : argN mX7_saleMore 2 := by unfold argN; decide +kernel
theorem hX7_saleMore : notMH (my mX7_saleMore).cls := ⟨by decide +kernel, by decide +kernel⟩
def mX7_isEight : MD := (yX7_isEight, cX7_isEight, 1, some .boolean, [])
theorem wX7_isEight : mword mX7_isEight ∈ lw_all := by
  show (if ([] : List (Nat × Nat × Nat × Nat)) = [] then _ else _) ∈ lw_all
  rw [if_pos rfl]
  exact q1342
theorem kX7_isEight : Cal mX7_isEight := ⟨wX7_isEight, q100, Nat.le_of_ble_eq_true rfl, by decide +kernel⟩
theorem nX7_isEight : argN mX7_isEight 1 := by unfold argN; decide +kernel
theorem hX7_isEight : notMH (my mX7_isEight).cls := ⟨by decide +kernel, by decide +kernel⟩
def mX7_read : MD := (yX7_read, cX7_read, 3, some .int, [])
theorem wX7_read : mword mX7_read ∈ lw_all := by
  show (if ([] : List (Nat × Nat × Nat × Nat)) = [] then _ else _) ∈ lw_all
  rw [if_pos rfl]
  exact q1346
theorem kX7_read : Cal mX7_read := ⟨wX7_read, q100, Nat.le_of_ble_eq_true rfl, by decide +kernel⟩
theorem nX7_read : argN mX7_read 1 := by unfold argN; decide +kernel
theorem hX7_read : notMH (my mX7_read).cls := ⟨by decide +kernel, by decide +kernel⟩
def mX7_isSheet : MD := (yX7_isSheet, cX7_isSheet, 1, some .boolean, [])
theorem wX7_isSheet : mword mX7_isSheet ∈ lw_all := by
  show (if ([] : List (Nat × Nat × Nat × Nat)) = [] then _ else _) ∈ lw_all
  rw [if_pos rfl]
  exact q1349
theorem kX7_isSheet : Cal mX7_isSheet := ⟨wX7_isSheet, q100, Nat.le_of_ble_eq_true rfl, by decide +kernel⟩
theorem nX7_isSheet : argN mX7_isSheet 1 := by unfold argN; decide +kernel
theorem hX7_isSheet : notMH (my mX7_isSheet).cls := ⟨by decide +kernel, by decide +kernel⟩
def mX7_meets : MD := (yX7_meets, cX7_meets, 2, some .int, [])
theorem wX7_meets : mword mX7_meets ∈ lw_all := by
  show (if ([] : List (Nat × Nat × Nat × Nat)) = [] then _ else _) ∈ lw_all
  rw [if_pos rfl]
  exact q1353
theorem kX7_meets : Cal mX7_meets := ⟨wX7_meets, q100, Nat.le_of_ble_eq_true rfl, by decide +kernel⟩
theorem nX7_meets : argN mX7_meets 1 := by unfold argN; decide +kernel
theorem hX7_meets : notMH (my mX7_meets).cls := ⟨by decide +kernel, by decide +kernel⟩
def mX7_undo : MD := (yX7_undo, cX7_undo, 1, some .int, [])
theorem wX7_undo : mword mX7_undo ∈ lw_all := by
  show (if ([] : List (Nat × Nat × Nat × Nat)) = [] then _ else _) ∈ lw_all
  rw [if_pos rfl]
  exact q1357
theorem kX7_undo : Cal mX7_undo := ⟨wX7_undo, q100, Nat.le_of_ble_eq_true rfl, by decide +kernel⟩
theorem nX7_undo : argN mX7_undo 0 := by unfold argN; decide +kernel
theorem hX7_undo : notMH (my mX7_undo).cls := ⟨by decide +kernel, by decide +kernel⟩
def mX7_whose : MD := (yX7_whose, cX7_whose, 3, some .int, [])
theorem wX7_whose : mword mX7_whose ∈ lw_all := by
  show (if ([] : List (Nat × Nat × Nat × Nat)) = [] then _ else _) ∈ lw_all
  rw [if_pos rfl]
  exact q1361
theorem kX7_whose : Cal mX7_whose := ⟨wX7_whose, q100, Nat.le_of_ble_eq_true rfl, by decide +kernel⟩
theorem nX7_whose : argN mX7_whose 2 := by unfold argN; decide +kernel
theorem hX7_whose : notMH (my mX7_whose).cls := ⟨by decide +kernel, by decide +kernel⟩
def mX7_lays : MD := (yX7_lays, cX7_lays, 3, none, [])
theorem wX7_lays : mword mX7_lays ∈ lw_all := by
  show (if ([] : List (Nat × Nat × Nat × Nat)) = [] then _ else _) ∈ lw_all
  rw [if_pos rfl]
  exact q1365
theorem kX7_lays : Cal mX7_lays := ⟨wX7_lays, q100, Nat.le_of_ble_eq_true rfl, by decide +kernel⟩
theorem nX7_lays : argN mX7_lays 1 := by unfold argN; decide +kernel
theorem hX7_lays : notMH (my mX7_lays).cls := ⟨by decide +kernel, by decide +kernel⟩
def mX7_runs : MD := (yX7_runs, cX7_runs, 3, none, [])
theorem wX7_runs : mword mX7_runs ∈ lw_all := by
  show (if ([] : List (Nat × Nat × Nat × Nat)) = [] then _ else _) ∈ lw_all
  rw [if_pos rfl]
  exact q1369
theorem kX7_runs : Cal mX7_runs := ⟨wX7_runs, q100, Nat.le_of_ble_eq_true rfl, by decide +kernel⟩
theorem nX7_runs : argN mX7_runs 1 := by unfold argN; decide +kernel
theorem hX7_runs : notMH (my mX7_runs).cls := ⟨by decide +kernel, by decide +kernel⟩
def mX7_begins : MD := (yX7_begins, cX7_begins, 2, none, [])
theorem wX7_begins : mword mX7_begins ∈ lw_all := by
  show (if ([] : List (Nat × Nat × Nat × Nat)) = [] then _ else _) ∈ lw_all
  rw [if_pos rfl]
  exact q1373
theorem kX7_begins : Cal mX7_begins := ⟨wX7_begins, q100, Nat.le_of_ble_eq_true rfl, by decide +kernel⟩
theorem nX7_begins : argN mX7_begins 0 := by unfold argN; decide +kernel
theorem hX7_begins : notMH (my mX7_begins).cls := ⟨by decide +kernel, by decide +kernel⟩
def mX7_sells : MD := (yX7_sells, cX7_sells, 10, some .int, [])
theorem wX7_sells : mword mX7_sells ∈ lw_all := by
  show (if ([] : List (Nat × Nat × Nat × Nat)) = [] then _ else _) ∈ lw_all
  rw [if_pos rfl]
  exact q1377
theorem kX7_sells : Cal mX7_sells := ⟨wX7_sells, q100, Nat.le_of_ble_eq_true rfl, by decide +kernel⟩
theorem nX7_sells : argN mX7_sells 2 := by unfold argN; decide +kernel
theorem hX7_sells : notMH (my mX7_sells).cls := ⟨by decide +kernel, by decide +kernel⟩
def mX7_isIn : MD := (yX7_isIn, cX7_isIn, 2, some .boolean, [])
theorem wX7_isIn : mword mX7_isIn ∈ lw_all := by
  show (if ([] : List (Nat × Nat × Nat × Nat)) = [] then _ else _) ∈ lw_all
  rw [if_pos rfl]
  exact q1380
theorem kX7_isIn : Cal mX7_isIn := ⟨wX7_isIn, q100, Nat.le_of_ble_eq_true rfl, by decide +kernel⟩
theorem nX7_isIn : argN mX7_isIn 2 := by unfold argN; decide +kernel
theorem hX7_isIn : notMH (my mX7_isIn).cls := ⟨by decide +kernel, by decide +kernel⟩
def mX7_keeper : MD := (yX7_keeper, cX7_keeper, 3, some .int, [])
theorem wX7_keeper : mword mX7_keeper ∈ lw_all := by
  show (if ([] : List (Nat × Nat × Nat × Nat)) = [] then _ else _) ∈ lw_all
  rw [if_pos rfl]
  exact q1384
theorem kX7_keeper : Cal mX7_keeper := ⟨wX7_keeper, q100, Nat.le_of_ble_eq_true rfl, by decide +kernel⟩
theorem nX7_keeper : argN mX7_keeper 2 := by unfold argN; decide +kernel
theorem hX7_keeper : notMH (my mX7_keeper).cls := ⟨by decide +kernel, by decide +kernel⟩
def mX7_keeperOf : MD := (yX7_keeperOf, cX7_keeperOf, 3, some .int, [])
theorem wX7_keeperOf : mword mX7_keeperOf ∈ lw_all := by
  show (if ([] : List (Nat × Nat × Nat × Nat)) = [] then _ else _) ∈ lw_all
  rw [if_pos rfl]
  exact q1388
theorem kX7_keeperOf : Cal mX7_keeperOf := ⟨wX7_keeperOf, q100, Nat.le_of_ble_eq_true rfl, by decide +kernel⟩
theorem nX7_keeperOf : argN mX7_keeperOf 2 := by unfold argN; decide +kernel
theorem hX7_keeperOf : notMH (my mX7_keeperOf).cls := ⟨by decide +kernel, by decide +kernel⟩
def mX7_sold : MD := (yX7_sold, cX7_sold, 3, some .int, [])
theorem wX7_sold : mword mX7_sold ∈ lw_all := by
  show (if ([] : List (Nat × Nat × Nat × Nat)) = [] then _ else _) ∈ lw_all
  rw [if_pos rfl]
  exact q1392
theorem kX7_sold : Cal mX7_sold := ⟨wX7_sold, q100, Nat.le_of_ble_eq_true rfl, by decide +kernel⟩
theorem nX7_sold : argN mX7_sold 2 := by unfold argN; decide +kernel
theorem hX7_sold : notMH (my mX7_sold).cls := ⟨by decide +kernel, by decide +kernel⟩
def mX7_soldOf : MD := (yX7_soldOf, cX7_soldOf, 3, some .int, [])
theorem wX7_soldOf : mword mX7_soldOf ∈ lw_all := by
  show (if ([] : List (Nat × Nat × Nat × Nat)) = [] then _ else _) ∈ lw_all
  rw [if_pos rfl]
  exact q1396
theorem kX7_soldOf : Cal mX7_soldOf := ⟨wX7_soldOf, q100, Nat.le_of_ble_eq_true rfl, by decide +kernel⟩
theorem nX7_soldOf : argN mX7_soldOf 2 := by unfold argN; decide +kernel
theorem hX7_soldOf : notMH (my mX7_soldOf).cls := ⟨by decide +kernel, by decide +kernel⟩
def mX7_length : MD := (yX7_length, cX7_length, 2, some .int, [])
theorem wX7_length : mword mX7_length ∈ lw_all := by
  show (if ([] : List (Nat × Nat × Nat × Nat)) = [] then _ else _) ∈ lw_all
  rw [if_pos rfl]
  exact q1400
theorem kX7_length : Cal mX7_length := ⟨wX7_length, q100, Nat.le_of_ble_eq_true rfl, by decide +kernel⟩
theorem nX7_length : argN mX7_length 1 := by unfold argN; decide +kernel
theorem hX7_length : notMH (my mX7_length).cls := ⟨by decide +kernel, by decide +kernel⟩
def mX7_lengthOf : MD := (yX7_lengthOf, cX7_lengthOf, 2, some .int, [])
theorem wX7_lengthOf : mword mX7_lengthOf ∈ lw_all := by
  show (if ([] : List (Nat × Nat × Nat × Nat)) = [] then _ else _) ∈ lw_all
  rw [if_pos rfl]
  exact q1404
theorem kX7_lengthOf : Cal mX7_lengthOf := ⟨wX7_lengthOf, q100, Nat.le_of_ble_eq_true rfl, by decide +kernel⟩
theorem nX7_lengthOf : argN mX7_lengthOf 1 := by unfold argN; decide +kernel
theorem hX7_lengthOf : notMH (my mX7_lengthOf).cls := ⟨by decide +kernel, by decide +kernel⟩
def mX7_worth : MD := (yX7_worth, cX7_worth, 5, some .int, [])
theorem wX7_worth : mword mX7_worth ∈ lw_all := by
  show (if ([] : List (Nat × Nat × Nat × Nat)) = [] then _ else _) ∈ lw_all
  rw [if_pos rfl]
  exact q1408
theorem kX7_worth : Cal mX7_worth := ⟨wX7_worth, q100, Nat.le_of_ble_eq_true rfl, by decide +kernel⟩
theorem nX7_worth : argN mX7_worth 3 := by unfold argN; decide +kernel
theorem hX7_worth : notMH (my mX7_worth).cls := ⟨by decide +kernel, by decide +kernel⟩
def mX7_like : MD := (yX7_like, cX7_like, 5, some .int, [])
theorem wX7_like : mword mX7_like ∈ lw_all := by
  show (if ([] : List (Nat × Nat × Nat × Nat)) = [] then _ else _) ∈ lw_all
  rw [if_pos rfl]
  exact q1413
theorem kX7_like : Cal mX7_like := ⟨wX7_like, q100, Nat.le_of_ble_eq_true rfl, by decide +kernel⟩
theorem nX7_like : argN mX7_like 3 := by unfold argN; decide +kernel
theorem hX7_like : notMH (my mX7_like).cls := ⟨by decide +kernel, by decide +kernel⟩
def mX7_gain : MD := (yX7_gain, cX7_gain, 2, some .int, [])
theorem wX7_gain : mword mX7_gain ∈ lw_all := by
  show (if ([] : List (Nat × Nat × Nat × Nat)) = [] then _ else _) ∈ lw_all
  rw [if_pos rfl]
  exact q1417
theorem kX7_gain : Cal mX7_gain := ⟨wX7_gain, q100, Nat.le_of_ble_eq_true rfl, by decide +kernel⟩
theorem nX7_gain : argN mX7_gain 1 := by unfold argN; decide +kernel
theorem hX7_gain : notMH (my mX7_gain).cls := ⟨by decide +kernel, by decide +kernel⟩
def mX7_gainOf : MD := (yX7_gainOf, cX7_gainOf, 2, some .int, [])
theorem wX7_gainOf : mword mX7_gainOf ∈ lw_all := by
  show (if ([] : List (Nat × Nat × Nat × Nat)) = [] then _ else _) ∈ lw_all
  rw [if_pos rfl]
  exact q1421
theorem kX7_gainOf : Cal mX7_gainOf := ⟨wX7_gainOf, q100, Nat.le_of_ble_eq_true rfl, by decide +kernel⟩
theorem nX7_gainOf : argN mX7_gainOf 1 := by unfold argN; decide +kernel
theorem hX7_gainOf : notMH (my mX7_gainOf).cls := ⟨by decide +kernel, by decide +kernel⟩
def mX7_gainBy : MD := (yX7_gainBy, cX7_gainBy, 4, some .int, [])
theorem wX7_gainBy : mword mX7_gainBy ∈ lw_all := by
  show (if ([] : List (Nat × Nat × Nat × Nat)) = [] then _ else _) ∈ lw_all
  rw [if_pos rfl]
  exact q1425
theorem kX7_gainBy : Cal mX7_gainBy := ⟨wX7_gainBy, q100, Nat.le_of_ble_eq_true rfl, by decide +kernel⟩
theorem nX7_gainBy : argN mX7_gainBy 1 := by unfold argN; decide +kernel
theorem hX7_gainBy : notMH (my mX7_gainBy).cls := ⟨by decide +kernel, by decide +kernel⟩
def mX7_best : MD := (yX7_best, cX7_best, 3, some .int, [])
theorem wX7_best : mword mX7_best ∈ lw_all := by
  show (if ([] : List (Nat × Nat × Nat × Nat)) = [] then _ else _) ∈ lw_all
  rw [if_pos rfl]
  exact q1429
theorem kX7_best : Cal mX7_best := ⟨wX7_best, q100, Nat.le_of_ble_eq_true rfl, by decide +kernel⟩
theorem nX7_best : argN mX7_best 2 := by unfold argN; decide +kernel
theorem hX7_best : notMH (my mX7_best).cls := ⟨by decide +kernel, by decide +kernel⟩
def mX7_bestOf : MD := (yX7_bestOf, cX7_bestOf, 9, some .int, [])
theorem wX7_bestOf : mword mX7_bestOf ∈ lw_all := by
  show (if ([] : List (Nat × Nat × Nat × Nat)) = [] then _ else _) ∈ lw_all
  rw [if_pos rfl]
  exact q1433
theorem kX7_bestOf : Cal mX7_bestOf := ⟨wX7_bestOf, q100, Nat.le_of_ble_eq_true rfl, by decide +kernel⟩
theorem nX7_bestOf : argN mX7_bestOf 2 := by unfold argN; decide +kernel
theorem hX7_bestOf : notMH (my mX7_bestOf).cls := ⟨by decide +kernel, by decide +kernel⟩
def mX7_rows : MD := (yX7_rows, cX7_rows, 3, some .int, [])
theorem wX7_rows : mword mX7_rows ∈ lw_all := by
  show (if ([] : List (Nat × Nat × Nat × Nat)) = [] then _ else _) ∈ lw_all
  rw [if_pos rfl]
  exact q1438
theorem kX7_rows : Cal mX7_rows := ⟨wX7_rows, q100, Nat.le_of_ble_eq_true rfl, by decide +kernel⟩
theorem nX7_rows : argN mX7_rows 0 := by unfold argN; decide +kernel
theorem hX7_rows : notMH (my mX7_rows).cls := ⟨by decide +kernel, by decide +kernel⟩
def mX7_places : MD := (yX7_places, cX7_places, 4, none, [])
theorem wX7_places : mword mX7_places ∈ lw_all := by
  show (if ([] : List (Nat × Nat × Nat × Nat)) = [] then _ else _) ∈ lw_all
  rw [if_pos rfl]
  exact q1442
theorem kX7_places : Cal mX7_places := ⟨wX7_places, q100, Nat.le_of_ble_eq_true rfl, by decide +kernel⟩
theorem nX7_places : argN mX7_places 1 := by unfold argN; decide +kernel
theorem hX7_places : notMH (my mX7_places).cls := ⟨by decide +kernel, by decide +kernel⟩
def mX7_rest : MD := (yX7_rest, cX7_rest, 2, some .int, [])
theorem wX7_rest : mword mX7_rest ∈ lw_all := by
  show (if ([] : List (Nat × Nat × Nat × Nat)) = [] then _ else _) ∈ lw_all
  rw [if_pos rfl]
  exact q1446
theorem kX7_rest : Cal mX7_rest := ⟨wX7_rest, q100, Nat.le_of_ble_eq_true rfl, by decide +kernel⟩
theorem nX7_rest : argN mX7_rest 1 := by unfold argN; decide +kernel
theorem hX7_rest : notMH (my mX7_rest).cls := ⟨by decide +kernel, by decide +kernel⟩
def mX7_restNow : MD := (yX7_restNow, cX7_restNow, 2, some .int, [])
theorem wX7_restNow : mword mX7_restNow ∈ lw_all := by
  show (if ([] : List (Nat × Nat × Nat × Nat)) = [] then _ else _) ∈ lw_all
  rw [if_pos rfl]
  exact q1450
theorem kX7_restNow : Cal mX7_restNow := ⟨wX7_restNow, q100, Nat.le_of_ble_eq_true rfl, by decide +kernel⟩
theorem nX7_restNow : argN mX7_restNow 1 := by unfold argN; decide +kernel
theorem hX7_restNow : notMH (my mX7_restNow).cls := ⟨by decide +kernel, by decide +kernel⟩
def mX7_restOf : MD := (yX7_restOf, cX7_restOf, 11, some .int, [])
theorem wX7_restOf : mword mX7_restOf ∈ lw_all := by
  show (if ([] : List (Nat × Nat × Nat × Nat)) = [] then _ else _) ∈ lw_all
  rw [if_pos rfl]
  exact q1454
theorem kX7_restOf : Cal mX7_restOf := ⟨wX7_restOf, q100, Nat.le_of_ble_eq_true rfl, by decide +kernel⟩
theorem nX7_restOf : argN mX7_restOf 1 := by unfold argN; decide +kernel
theorem hX7_restOf : notMH (my mX7_restOf).cls := ⟨by decide +kernel, by decide +kernel⟩
def mX7_out : MD := (yX7_out, cX7_out, 2, some .int, [])
theorem wX7_out : mword mX7_out ∈ lw_all := by
  show (if ([] : List (Nat × Nat × Nat × Nat)) = [] then _ else _) ∈ lw_all
  rw [if_pos rfl]
  exact q1459
theorem kX7_out : Cal mX7_out := ⟨wX7_out, q100, Nat.le_of_ble_eq_true rfl, by decide +kernel⟩
theorem nX7_out : argN mX7_out 1 := by unfold argN; decide +kernel
theorem hX7_out : notMH (my mX7_out).cls := ⟨by decide +kernel, by decide +kernel⟩
def mX7_outOf : MD := (yX7_outOf, cX7_outOf, 6, some .int, [])
theorem wX7_outOf : mword mX7_outOf ∈ lw_all := by
  show (if ([] : List (Nat × Nat × Nat × Nat)) = [] then _ else _) ∈ lw_all
  rw [if_pos rfl]
  exact q1463
theorem kX7_outOf : Cal mX7_outOf := ⟨wX7_outOf, q100, Nat.le_of_ble_eq_true rfl, by decide +kernel⟩
theorem nX7_outOf : argN mX7_outOf 1 := by unfold argN; decide +kernel
theorem hX7_outOf : notMH (my mX7_outOf).cls := ⟨by decide +kernel, by decide +kernel⟩
def mX7_isTold : MD := (yX7_isTold, cX7_isTold, 4, some .boolean, [])
theorem wX7_isTold : mword mX7_isTold ∈ lw_all := by
  show (if ([] : List (Nat × Nat × Nat × Nat)) = [] then _ else _) ∈ lw_all
  rw [if_pos rfl]
  exact q1467
theorem kX7_isTold : Cal mX7_isTold := ⟨wX7_isTold, q100, Nat.le_of_ble_eq_true rfl, by decide +kernel⟩
theorem nX7_isTold : argN mX7_isTold 1 := by unfold argN; decide +kernel
theorem hX7_isTold : notMH (my mX7_isTold).cls := ⟨by decide +kernel, by decide +kernel⟩
def mX7_value : MD := (yX7_value, cX7_value, 3, some .int, [])
theorem wX7_value : mword mX7_value ∈ lw_all := by
  show (if ([] : List (Nat × Nat × Nat × Nat)) = [] then _ else _) ∈ lw_all
  rw [if_pos rfl]
  exact q1471
theorem kX7_value : Cal mX7_value := ⟨wX7_value, q100, Nat.le_of_ble_eq_true rfl, by decide +kernel⟩
theorem nX7_value : argN mX7_value 2 := by unfold argN; decide +kernel
theorem hX7_value : notMH (my mX7_value).cls := ⟨by decide +kernel, by decide +kernel⟩
def mX7_valueOf : MD := (yX7_valueOf, cX7_valueOf, 5, some .int, [])
theorem wX7_valueOf : mword mX7_valueOf ∈ lw_all := by
  show (if ([] : List (Nat × Nat × Nat × Nat)) = [] then _ else _) ∈ lw_all
  rw [if_pos rfl]
  exact q1475
theorem kX7_valueOf : Cal mX7_valueOf := ⟨wX7_valueOf, q100, Nat.le_of_ble_eq_true rfl, by decide +kernel⟩
theorem nX7_valueOf : argN mX7_valueOf 2 := by unfold argN; decide +kernel
theorem hX7_valueOf : notMH (my mX7_valueOf).cls := ⟨by decide +kernel, by decide +kernel⟩
def mX7_change : MD := (yX7_change, cX7_change, 3, some .int, [])
theorem wX7_change : mword mX7_change ∈ lw_all := by
  show (if ([] : List (Nat × Nat × Nat × Nat)) = [] then _ else _) ∈ lw_all
  rw [if_pos rfl]
  exact q1479
theorem kX7_change : Cal mX7_change := ⟨wX7_change, q100, Nat.le_of_ble_eq_true rfl, by decide +kernel⟩
theorem nX7_change : argN mX7_change 2 := by unfold argN; decide +kernel
theorem hX7_change : notMH (my mX7_change).cls := ⟨by decide +kernel, by decide +kernel⟩
def mX7_isChange : MD := (yX7_isChange, cX7_isChange, 5, some .boolean, [])
theorem wX7_isChange : mword mX7_isChange ∈ lw_all := by
  show (if ([] : List (Nat × Nat × Nat × Nat)) = [] then _ else _) ∈ lw_all
  rw [if_pos rfl]
  exact q1483
theorem kX7_isChange : Cal mX7_isChange := ⟨wX7_isChange, q100, Nat.le_of_ble_eq_true rfl, by decide +kernel⟩
theorem nX7_isChange : argN mX7_isChange 2 := by unfold argN; decide +kernel
theorem hX7_isChange : notMH (my mX7_isChange).cls := ⟨by decide +kernel, by decide +kernel⟩
def mX7_changes : MD := (yX7_changes, cX7_changes, 1, some .int, [])
theorem wX7_changes : mword mX7_changes ∈ lw_all := by
  show (if ([] : List (Nat × Nat × Nat × Nat)) = [] then _ else _) ∈ lw_all
  rw [if_pos rfl]
  exact q1487
theorem kX7_changes : Cal mX7_changes := ⟨wX7_changes, q100, Nat.le_of_ble_eq_true rfl, by decide +kernel⟩
theorem nX7_changes : argN mX7_changes 0 := by unfold argN; decide +kernel
theorem hX7_changes : notMH (my mX7_changes).cls := ⟨by decide +kernel, by decide +kernel⟩
def mX7_changesNow : MD := (yX7_changesNow, cX7_changesNow, 4, some .int, [])
theorem wX7_changesNow : mword mX7_changesNow ∈ lw_all := by
  show (if ([] : List (Nat × Nat × Nat × Nat)) = [] then _ else _) ∈ lw_all
  rw [if_pos rfl]
  exact q1491
theorem kX7_changesNow : Cal mX7_changesNow := ⟨wX7_changesNow, q100, Nat.le_of_ble_eq_true rfl, by decide +kernel⟩
theorem nX7_changesNow : argN mX7_changesNow 0 := by unfold argN; decide +kernel
theorem hX7_changesNow : notMH (my mX7_changesNow).cls := ⟨by decide +kernel, by decide +kernel⟩
def mX7_should : MD := (yX7_should, cX7_should, 2, some .int, [])
theorem wX7_should : mword mX7_should ∈ lw_all := by
  show (if ([] : List (Nat × Nat × Nat × Nat)) = [] then _ else _) ∈ lw_all
  rw [if_pos rfl]
  exact q1495
theorem kX7_should : Cal mX7_should := ⟨wX7_should, q100, Nat.le_of_ble_eq_true rfl, by decide +kernel⟩
theorem nX7_should : argN mX7_should 1 := by unfold argN; decide +kernel
theorem hX7_should : notMH (my mX7_should).cls := ⟨by decide +kernel, by decide +kernel⟩
def mX7_shouldOf : MD := (yX7_shouldOf, cX7_shouldOf, 10, some .int, [])
theorem wX7_shouldOf : mword mX7_shouldOf ∈ lw_all := by
  show (if ([] : List (Nat × Nat × Nat × Nat)) = [] then _ else _) ∈ lw_all
  rw [if_pos rfl]
  exact q1499
theorem kX7_shouldOf : Cal mX7_shouldOf := ⟨wX7_shouldOf, q100, Nat.le_of_ble_eq_true rfl, by decide +kernel⟩
theorem nX7_shouldOf : argN mX7_shouldOf 1 := by unfold argN; decide +kernel
theorem hX7_shouldOf : notMH (my mX7_shouldOf).cls := ⟨by decide +kernel, by decide +kernel⟩
def mX7_stateNow : MD := (yX7_stateNow, cX7_stateNow, 3, some .int, [])
theorem wX7_stateNow : mword mX7_stateNow ∈ lw_all := by
  show (if ([] : List (Nat × Nat × Nat × Nat)) = [] then _ else _) ∈ lw_all
  rw [if_pos rfl]
  exact q1503
theorem kX7_stateNow : Cal mX7_stateNow := ⟨wX7_stateNow, q100, Nat.le_of_ble_eq_true rfl, by decide +kernel⟩
theorem nX7_stateNow : argN mX7_stateNow 0 := by unfold argN; decide +kernel
theorem hX7_stateNow : notMH (my mX7_stateNow).cls := ⟨by decide +kernel, by decide +kernel⟩
def mX7_ownsBy : MD := (yX7_ownsBy, cX7_ownsBy, 4, none, [])
theorem wX7_ownsBy : mword mX7_ownsBy ∈ lw_all := by
  show (if ([] : List (Nat × Nat × Nat × Nat)) = [] then _ else _) ∈ lw_all
  rw [if_pos rfl]
  exact q1507
theorem kX7_ownsBy : Cal mX7_ownsBy := ⟨wX7_ownsBy, q100, Nat.le_of_ble_eq_true rfl, by decide +kernel⟩
theorem nX7_ownsBy : argN mX7_ownsBy 1 := by unfold argN; decide +kernel
theorem hX7_ownsBy : notMH (my mX7_ownsBy).cls := ⟨by decide +kernel, by decide +kernel⟩
def mX7_come : MD := (yX7_come, cX7_come, 3, some .int, [])
theorem wX7_come : mword mX7_come ∈ lw_all := by
  show (if ([] : List (Nat × Nat × Nat × Nat)) = [] then _ else _) ∈ lw_all
  rw [if_pos rfl]
  exact q1511
theorem kX7_come : Cal mX7_come := ⟨wX7_come, q100, Nat.le_of_ble_eq_true rfl, by decide +kernel⟩
theorem nX7_come : argN mX7_come 2 := by unfold argN; decide +kernel
theorem hX7_come : notMH (my mX7_come).cls := ⟨by decide +kernel, by decide +kernel⟩
def mX7_comeOf : MD := (yX7_comeOf, cX7_comeOf, 7, some .int, [])
theorem wX7_comeOf : mword mX7_comeOf ∈ lw_all := by
  show (if ([] : List (Nat × Nat × Nat × Nat)) = [] then _ else _) ∈ lw_all
  rw [if_pos rfl]
  exact q1515
theorem kX7_comeOf : Cal mX7_comeOf := ⟨wX7_comeOf, q100, Nat.le_of_ble_eq_true rfl, by decide +kernel⟩
theorem nX7_comeOf : argN mX7_comeOf 2 := by unfold argN; decide +kernel
theorem hX7_comeOf : notMH (my mX7_comeOf).cls := ⟨by decide +kernel, by decide +kernel⟩
def mX7_invite : MD := (yX7_invite, cX7_invite, 3, some .int, [])
theorem wX7_invite : mword mX7_invite ∈ lw_all := by
  show (if ([] : List (Nat × Nat × Nat × Nat)) = [] then _ else _) ∈ lw_all
  rw [if_pos rfl]
  exact q1519
theorem kX7_invite : Cal mX7_invite := ⟨wX7_invite, q100, Nat.le_of_ble_eq_true rfl, by decide +kernel⟩
theorem nX7_invite : argN mX7_invite 2 := by unfold argN; decide +kernel
theorem hX7_invite : notMH (my mX7_invite).cls := ⟨by decide +kernel, by decide +kernel⟩
def mX7_inviteOf : MD := (yX7_inviteOf, cX7_inviteOf, 6, some .int, [])
theorem wX7_inviteOf : mword mX7_inviteOf ∈ lw_all := by
  show (if ([] : List (Nat × Nat × Nat × Nat)) = [] then _ else _) ∈ lw_all
  rw [if_pos rfl]
  exact q1523
theorem kX7_inviteOf : Cal mX7_inviteOf := ⟨wX7_inviteOf, q100, Nat.le_of_ble_eq_true rfl, by decide +kernel⟩
theorem nX7_inviteOf : argN mX7_inviteOf 2 := by unfold argN; decide +kernel
theorem hX7_inviteOf : notMH (my mX7_inviteOf).cls := ⟨by decide +kernel, by decide +kernel⟩
def mX7_ones : MD := (yX7_ones, cX7_ones, 3, some .int, [])
theorem wX7_ones : mword mX7_ones ∈ lw_all := by
  show (if ([] : List (Nat × Nat × Nat × Nat)) = [] then _ else _) ∈ lw_all
  rw [if_pos rfl]
  exact q1526
theorem kX7_ones : Cal mX7_ones := ⟨wX7_ones, q100, Nat.le_of_ble_eq_true rfl, by decide +kernel⟩
theorem nX7_ones : argN mX7_ones 1 := by unfold argN; decide +kernel
theorem hX7_ones : notMH (my mX7_ones).cls := ⟨by decide +kernel, by decide +kernel⟩
def mX7_fact : MD := (yX7_fact, cX7_fact, 3, some .int, [])
theorem wX7_fact : mword mX7_fact ∈ lw_all := by
  show (if ([] : List (Nat × Nat × Nat × Nat)) = [] then _ else _) ∈ lw_all
  rw [if_pos rfl]
  exact q1530
theorem kX7_fact : Cal mX7_fact := ⟨wX7_fact, q100, Nat.le_of_ble_eq_true rfl, by decide +kernel⟩
theorem nX7_fact : argN mX7_fact 2 := by unfold argN; decide +kernel
theorem hX7_fact : notMH (my mX7_fact).cls := ⟨by decide +kernel, by decide +kernel⟩
def mX7_forget : MD := (yX7_forget, cX7_forget, 2, some .int, [])
theorem wX7_forget : mword mX7_forget ∈ lw_all := by
  show (if ([] : List (Nat × Nat × Nat × Nat)) = [] then _ else _) ∈ lw_all
  rw [if_pos rfl]
  exact q1534
theorem kX7_forget : Cal mX7_forget := ⟨wX7_forget, q100, Nat.le_of_ble_eq_true rfl, by decide +kernel⟩
theorem nX7_forget : argN mX7_forget 0 := by unfold argN; decide +kernel
theorem hX7_forget : notMH (my mX7_forget).cls := ⟨by decide +kernel, by decide +kernel⟩
def mX7_were : MD := (yX7_were, cX7_were, 3, some .int, [])
theorem wX7_were : mword mX7_were ∈ lw_all := by
  show (if ([] : List (Nat × Nat × Nat × Nat)) = [] then _ else _) ∈ lw_all
  rw [if_pos rfl]
  exact q1538
theorem kX7_were : Cal mX7_were := ⟨wX7_were, q100, Nat.le_of_ble_eq_true rfl, by decide +kernel⟩
theorem nX7_were : argN mX7_were 1 := by unfold argN; decide +kernel
theorem hX7_were : notMH (my mX7_were).cls := ⟨by decide +kernel, by decide +kernel⟩
def mX7_waysNow : MD := (yX7_waysNow, cX7_waysNow, 6, some .int, [])
theorem wX7_waysNow : mword mX7_waysNow ∈ lw_all := by
  show (if ([] : List (Nat × Nat × Nat × Nat)) = [] then _ else _) ∈ lw_all
  rw [if_pos rfl]
  exact q1542
theorem kX7_waysNow : Cal mX7_waysNow := ⟨wX7_waysNow, q100, Nat.le_of_ble_eq_true rfl, by decide +kernel⟩
theorem nX7_waysNow : argN mX7_waysNow 0 := by unfold argN; decide +kernel
theorem hX7_waysNow : notMH (my mX7_waysNow).cls := ⟨by decide +kernel, by decide +kernel⟩
def mX7_bed : MD := (yX7_bed, cX7_bed, 3, some .int, [])
theorem wX7_bed : mword mX7_bed ∈ lw_all := by
  show (if ([] : List (Nat × Nat × Nat × Nat)) = [] then _ else _) ∈ lw_all
  rw [if_pos rfl]
  exact q1546
theorem kX7_bed : Cal mX7_bed := ⟨wX7_bed, q100, Nat.le_of_ble_eq_true rfl, by decide +kernel⟩
theorem nX7_bed : argN mX7_bed 0 := by unfold argN; decide +kernel
theorem hX7_bed : notMH (my mX7_bed).cls := ⟨by decide +kernel, by decide +kernel⟩
def mX7_sheet : MD := (yX7_sheet, cX7_sheet, 5, some .int, [])
theorem wX7_sheet : mword mX7_sheet ∈ lw_all := by
  show (if ([] : List (Nat × Nat × Nat × Nat)) = [] then _ else _) ∈ lw_all
  rw [if_pos rfl]
  exact q1550
theorem kX7_sheet : Cal mX7_sheet := ⟨wX7_sheet, q100, Nat.le_of_ble_eq_true rfl, by decide +kernel⟩
theorem nX7_sheet : argN mX7_sheet 3 := by unfold argN; decide +kernel
theorem hX7_sheet : notMH (my mX7_sheet).cls := ⟨by decide +kernel, by decide +kernel⟩
def mX7_lose : MD := (yX7_lose, cX7_lose, 2, some .int, [])
theorem wX7_lose : mword mX7_lose ∈ lw_all := by
  show (if ([] : List (Nat × Nat × Nat × Nat)) = [] then _ else _) ∈ lw_all
  rw [if_pos rfl]
  exact q1554
theorem kX7_lose : Cal mX7_lose := ⟨wX7_lose, q100, Nat.le_of_ble_eq_true rfl, by decide +kernel⟩
theorem nX7_lose : argN mX7_lose 1 := by unfold argN; decide +kernel
theorem hX7_lose : notMH (my mX7_lose).cls := ⟨by decide +kernel, by decide +kernel⟩
def mX7_put : MD := (yX7_put, cX7_put, 6, some .int, [])
theorem wX7_put : mword mX7_put ∈ lw_all := by
  show (if ([] : List (Nat × Nat × Nat × Nat)) = [] then _ else _) ∈ lw_all
  rw [if_pos rfl]
  exact q1558
theorem kX7_put : Cal mX7_put := ⟨wX7_put, q100, Nat.le_of_ble_eq_true rfl, by decide +kernel⟩
theorem nX7_put : argN mX7_put 4 := by unfold argN; decide +kernel
theorem hX7_put : notMH (my mX7_put).cls := ⟨by decide +kernel, by decide +kernel⟩
def mX7_lacks : MD := (yX7_lacks, cX7_lacks, 4, some .int, [])
theorem wX7_lacks : mword mX7_lacks ∈ lw_all := by
  show (if ([] : List (Nat × Nat × Nat × Nat)) = [] then _ else _) ∈ lw_all
  rw [if_pos rfl]
  exact q1562
theorem kX7_lacks : Cal mX7_lacks := ⟨wX7_lacks, q100, Nat.le_of_ble_eq_true rfl, by decide +kernel⟩
theorem nX7_lacks : argN mX7_lacks 3 := by unfold argN; decide +kernel
theorem hX7_lacks : notMH (my mX7_lacks).cls := ⟨by decide +kernel, by decide +kernel⟩
def mX7_keep : MD := (yX7_keep, cX7_keep, 4, none, [])
theorem wX7_keep : mword mX7_keep ∈ lw_all := by
  show (if ([] : List (Nat × Nat × Nat × Nat)) = [] then _ else _) ∈ lw_all
  rw [if_pos rfl]
  exact q1566
theorem kX7_keep : Cal mX7_keep := ⟨wX7_keep, q100, Nat.le_of_ble_eq_true rfl, by decide +kernel⟩
theorem nX7_keep : argN mX7_keep 3 := by unfold argN; decide +kernel
theorem hX7_keep : notMH (my mX7_keep).cls := ⟨by decide +kernel, by decide +kernel⟩
def mX7_get : MD := (yX7_get, cX7_get, 5, some .int, [])
theorem wX7_get : mword mX7_get ∈ lw_all := by
  show (if ([] : List (Nat × Nat × Nat × Nat)) = [] then _ else _) ∈ lw_all
  rw [if_pos rfl]
  exact q1570
theorem kX7_get : Cal mX7_get := ⟨wX7_get, q100, Nat.le_of_ble_eq_true rfl, by decide +kernel⟩
theorem nX7_get : argN mX7_get 3 := by unfold argN; decide +kernel
theorem hX7_get : notMH (my mX7_get).cls := ⟨by decide +kernel, by decide +kernel⟩
def mX7_copy : MD := (yX7_copy, cX7_copy, 7, some .int, [])
theorem wX7_copy : mword mX7_copy ∈ lw_all := by
  show (if ([] : List (Nat × Nat × Nat × Nat)) = [] then _ else _) ∈ lw_all
  rw [if_pos rfl]
  exact q1575
theorem kX7_copy : Cal mX7_copy := ⟨wX7_copy, q100, Nat.le_of_ble_eq_true rfl, by decide +kernel⟩
theorem nX7_copy : argN mX7_copy 5 := by unfold argN; decide +kernel
theorem hX7_copy : notMH (my mX7_copy).cls := ⟨by decide +kernel, by decide +kernel⟩
def mX7_write : MD := (yX7_write, cX7_write, 3, some .int, [])
theorem wX7_write : mword mX7_write ∈ lw_all := by
  show (if ([] : List (Nat × Nat × Nat × Nat)) = [] then _ else _) ∈ lw_all
  rw [if_pos rfl]
  exact q1579
theorem kX7_write : Cal mX7_write := ⟨wX7_write, q100, Nat.le_of_ble_eq_true rfl, by decide +kernel⟩
theorem nX7_write : argN mX7_write 1 := by unfold argN; decide +kernel
theorem hX7_write : notMH (my mX7_write).cls := ⟨by decide +kernel, by decide +kernel⟩
def mX7_count : MD := (yX7_count, cX7_count, 2, some .int, [])
theorem wX7_count : mword mX7_count ∈ lw_all := by
  show (if ([] : List (Nat × Nat × Nat × Nat)) = [] then _ else _) ∈ lw_all
  rw [if_pos rfl]
  exact q1583
theorem kX7_count : Cal mX7_count := ⟨wX7_count, q100, Nat.le_of_ble_eq_true rfl, by decide +kernel⟩
theorem nX7_count : argN mX7_count 1 := by unfold argN; decide +kernel
theorem hX7_count : notMH (my mX7_count).cls := ⟨by decide +kernel, by decide +kernel⟩
def mX7_sumOf : MD := (yX7_sumOf, cX7_sumOf, 4, some .int, [])
theorem wX7_sumOf : mword mX7_sumOf ∈ lw_all := by
  show (if ([] : List (Nat × Nat × Nat × Nat)) = [] then _ else _) ∈ lw_all
  rw [if_pos rfl]
  exact q1587
theorem kX7_sumOf : Cal mX7_sumOf := ⟨wX7_sumOf, q100, Nat.le_of_ble_eq_true rfl, by decide +kernel⟩
theorem nX7_sumOf : argN mX7_sumOf 1 := by unfold argN; decide +kernel
theorem hX7_sumOf : notMH (my mX7_sumOf).cls := ⟨by decide +kernel, by decide +kernel⟩
def mX7_digest : MD := (yX7_digest, cX7_digest, 5, some .long, [])
theorem wX7_digest : mword mX7_digest ∈ lw_all := by
  show (if ([] : List (Nat × Nat × Nat × Nat)) = [] then _ else _) ∈ lw_all
  rw [if_pos rfl]
  exact q1591
theorem kX7_digest : Cal mX7_digest := ⟨wX7_digest, q100, Nat.le_of_ble_eq_true rfl, by decide +kernel⟩
theorem nX7_digest : argN mX7_digest 0 := by unfold argN; decide +kernel
theorem hX7_digest : notMH (my mX7_digest).cls := ⟨by decide +kernel, by decide +kernel⟩
def mJ3_init : MD := (yJ3_init, cJ3_init, 1, none, [])
theorem wJ3_init : mword mJ3_init ∈ lw_all := by
  show (if ([] : List (Nat × Nat × Nat × Nat)) = [] then _ else _) ∈ lw_all
  rw [if_pos rfl]
  exact q437
theorem kJ3_init : Cal mJ3_init := ⟨wJ3_init, q101, Nat.le_of_ble_eq_true rfl, by decide +kernel⟩
theorem nJ3_init : argN mJ3_init 0 := by unfold argN; decide +kernel
theorem hJ3_init : notMH (my mJ3_init).cls := ⟨by decide +kernel, by decide +kernel⟩
def mJ3_init_2 : MD := (yJ3_init_2, cJ3_init_2, 5, none, [])
theorem wJ3_init_2 : mword mJ3_init_2 ∈ lw_all := by
  show (if ([] : List (Nat × Nat × Nat × Nat)) = [] then _ else _) ∈ lw_all
  rw [if_pos rfl]
  exact q463
theorem kJ3_init_2 : Cal mJ3_init_2 := ⟨wJ3_init_2, q101, Nat.le_of_ble_eq_true rfl, by decide +kernel⟩
theorem nJ3_init_2 : argN mJ3_init_2 4 := by unfold argN; decide +kernel
theorem hJ3_init_2 : notMH (my mJ3_init_2).cls := ⟨by decide +kernel, by decide +kernel⟩
def mJ3_init_3 : MD := (yJ3_init_3, cJ3_init_3, 2, none, [])
theorem wJ3_init_3 : mword mJ3_init_3 ∈ lw_all := by
  show (if ([] : List (Nat × Nat × Nat × Nat)) = [] then _ else _) ∈ lw_all
  rw [if_pos rfl]
  exact q1057
theorem kJ3_init_3 : Cal mJ3_init_3 := ⟨wJ3_init_3, q101, Nat.le_of_ble_eq_true rfl, by decide +kernel⟩
theorem nJ3_init_3 : argN mJ3_init_3 1 := by unfold argN; decide +kernel
theorem hJ3_init_3 : notMH (my mJ3_init_3).cls := ⟨by decide +kernel, by decide +kernel⟩
def mJ4_init : MD := (yJ4_init, cJ4_init, 5, none, [])
theorem wJ4_init : mword mJ4_init ∈ lw_all := by
  show (if ([] : List (Nat × Nat × Nat × Nat)) = [] then _ else _) ∈ lw_all
  rw [if_pos rfl]
  exact q460
theorem kJ4_init : Cal mJ4_init := ⟨wJ4_init, q102, Nat.le_of_ble_eq_true rfl, by decide +kernel⟩
theorem nJ4_init : argN mJ4_init 4 := by unfold argN; decide +kernel
theorem hJ4_init : notMH (my mJ4_init).cls := ⟨by decide +kernel, by decide +kernel⟩
def mJ4_init_2 : MD := (yJ4_init_2, cJ4_init_2, 2, none, [])
theorem wJ4_init_2 : mword mJ4_init_2 ∈ lw_all := by
  show (if ([] : List (Nat × Nat × Nat × Nat)) = [] then _ else _) ∈ lw_all
  rw [if_pos rfl]
  exact q1054
theorem kJ4_init_2 : Cal mJ4_init_2 := ⟨wJ4_init_2, q102, Nat.le_of_ble_eq_true rfl, by decide +kernel⟩
theorem nJ4_init_2 : argN mJ4_init_2 1 := by unfold argN; decide +kernel
theorem hJ4_init_2 : notMH (my mJ4_init_2).cls := ⟨by decide +kernel, by decide +kernel⟩
def mX8_init : MD := (yX8_init, cX8_init, 2, none, [])
theorem wX8_init : mword mX8_init ∈ lw_all := by
  show (if ([] : List (Nat × Nat × Nat × Nat)) = [] then _ else _) ∈ lw_all
  rw [if_pos rfl]
  exact q457
theorem kX8_init : Cal mX8_init := ⟨wX8_init, q103, Nat.le_of_ble_eq_true rfl, by decide +kernel⟩
theorem nX8_init : argN mX8_init 1 := by unfold argN; decide +kernel
theorem hX8_init : notMH (my mX8_init).cls := ⟨by decide +kernel, by decide +kernel⟩
def mX9_init : MD := (yX9_init, cX9_init, 3, none, [])
theorem wX9_init : mword mX9_init ∈ lw_all := by
  show (if ([] : List (Nat × Nat × Nat × Nat)) = [] then _ else _) ∈ lw_all
  rw [if_pos rfl]
  exact q520
theorem kX9_init : Cal mX9_init := ⟨wX9_init, q104, Nat.le_of_ble_eq_true rfl, by decide +kernel⟩
theorem nX9_init : argN mX9_init 2 := by unfold argN; decide +kernel
theorem hX9_init : notMH (my mX9_init).cls := ⟨by decide +kernel, by decide +kernel⟩
def mX9_isLocked : MD := (yX9_isLocked, cX9_isLocked, 1, some .boolean, [])
theorem wX9_isLocked : mword mX9_isLocked ∈ lw_all := by
  show (if ([] : List (Nat × Nat × Nat × Nat)) = [] then _ else _) ∈ lw_all
  rw [if_pos rfl]
  exact q914
theorem kX9_isLocked : Cal mX9_isLocked := ⟨wX9_isLocked, q104, Nat.le_of_ble_eq_true rfl, by decide +kernel⟩
theorem nX9_isLocked : argN mX9_isLocked 0 := by unfold argN; decide +kernel
theorem hX9_isLocked : notMH (my mX9_isLocked).cls := ⟨by decide +kernel, by decide +kernel⟩
def mX10_init : MD := (yX10_init, cX10_init, 3, none, [])
theorem wX10_init : mword mX10_init ∈ lw_all := by
  show (if ([] : List (Nat × Nat × Nat × Nat)) = [] then _ else _) ∈ lw_all
  rw [if_pos rfl]
  exact q545
theorem kX10_init : Cal mX10_init := ⟨wX10_init, q105, Nat.le_of_ble_eq_true rfl, by decide +kernel⟩
theorem nX10_init : argN mX10_init 2 := by unfold argN; decide +kernel
theorem hX10_init : notMH (my mX10_init).cls := ⟨by decide +kernel, by decide +kernel⟩
def mJ5_newLength : MD := (yJ5_newLength, cJ5_newLength, 4, some .int, [])
theorem wJ5_newLength : mword mJ5_newLength ∈ lw_all := by
  show (if ([] : List (Nat × Nat × Nat × Nat)) = [] then _ else _) ∈ lw_all
  rw [if_pos rfl]
  exact q577
theorem kJ5_newLength : Cal mJ5_newLength := ⟨wJ5_newLength, q106, Nat.le_of_ble_eq_true rfl, by decide +kernel⟩
theorem nJ5_newLength : argN mJ5_newLength 3 := by unfold argN; decide +kernel
theorem hJ5_newLength : notMH (my mJ5_newLength).cls := ⟨by decide +kernel, by decide +kernel⟩
def mJ5_hugeLength : MD := (yJ5_hugeLength, cJ5_hugeLength, 3, some .int, [])
theorem wJ5_hugeLength : mword mJ5_hugeLength ∈ lw_all := by
  show (if ([] : List (Nat × Nat × Nat × Nat)) = [] then _ else _) ∈ lw_all
  rw [if_pos rfl]
  exact q584
theorem kJ5_hugeLength : Cal mJ5_hugeLength := ⟨wJ5_hugeLength, q106, Nat.le_of_ble_eq_true rfl, by decide +kernel⟩
theorem nJ5_hugeLength : argN mJ5_hugeLength 2 := by unfold argN; decide +kernel
theorem hJ5_hugeLength : notMH (my mJ5_hugeLength).cls := ⟨by decide +kernel, by decide +kernel⟩
def mJ6_max : MD := (yJ6_max, cJ6_max, 2, some .int, [])
theorem wJ6_max : mword mJ6_max ∈ lw_all := by
  show (if ([] : List (Nat × Nat × Nat × Nat)) = [] then _ else _) ∈ lw_all
  rw [if_pos rfl]
  exact q580
theorem kJ6_max : Cal mJ6_max := ⟨wJ6_max, q107, Nat.le_of_ble_eq_true rfl, by decide +kernel⟩
theorem nJ6_max : argN mJ6_max 2 := by unfold argN; decide +kernel
theorem hJ6_max : notMH (my mJ6_max).cls := ⟨by decide +kernel, by decide +kernel⟩
def mJ6_min : MD := (yJ6_min, cJ6_min, 2, some .int, [])
theorem wJ6_min : mword mJ6_min ∈ lw_all := by
  show (if ([] : List (Nat × Nat × Nat × Nat)) = [] then _ else _) ∈ lw_all
  rw [if_pos rfl]
  exact q614
theorem kJ6_min : Cal mJ6_min := ⟨wJ6_min, q107, Nat.le_of_ble_eq_true rfl, by decide +kernel⟩
theorem nJ6_min : argN mJ6_min 2 := by unfold argN; decide +kernel
theorem hJ6_min : notMH (my mJ6_min).cls := ⟨by decide +kernel, by decide +kernel⟩
def mJ6_abs : MD := (yJ6_abs, cJ6_abs, 1, some .int, [])
theorem wJ6_abs : mword mJ6_abs ∈ lw_all := by
  show (if ([] : List (Nat × Nat × Nat × Nat)) = [] then _ else _) ∈ lw_all
  rw [if_pos rfl]
  exact q934
theorem kJ6_abs : Cal mJ6_abs := ⟨wJ6_abs, q107, Nat.le_of_ble_eq_true rfl, by decide +kernel⟩
theorem nJ6_abs : argN mJ6_abs 1 := by unfold argN; decide +kernel
theorem hJ6_abs : notMH (my mJ6_abs).cls := ⟨by decide +kernel, by decide +kernel⟩
def mJ7_copyOf : MD := (yJ7_copyOf, cJ7_copyOf, 2, some (.array (.object "java/lang/Object")), [])
theorem wJ7_copyOf : mword mJ7_copyOf ∈ lw_all := by
  show (if ([] : List (Nat × Nat × Nat × Nat)) = [] then _ else _) ∈ lw_all
  rw [if_pos rfl]
  exact q587
theorem kJ7_copyOf : Cal mJ7_copyOf := ⟨wJ7_copyOf, q108, Nat.le_of_ble_eq_true rfl, by decide +kernel⟩
theorem nJ7_copyOf : argN mJ7_copyOf 2 := by unfold argN; decide +kernel
theorem hJ7_copyOf : notMH (my mJ7_copyOf).cls := ⟨by decide +kernel, by decide +kernel⟩
def mJ7_copyOf_2 : MD := (yJ7_copyOf_2, cJ7_copyOf_2, 4, some (.array (.object "java/lang/Object")), [])
theorem wJ7_copyOf_2 : mword mJ7_copyOf_2 ∈ lw_all := by
  show (if ([] : List (Nat × Nat × Nat × Nat)) = [] then _ else _) ∈ lw_all
  rw [if_pos rfl]
  exact q608
theorem kJ7_copyOf_2 : Cal mJ7_copyOf_2 := ⟨wJ7_copyOf_2, q108, Nat.le_of_ble_eq_true rfl, by decide +kernel⟩
theorem nJ7_copyOf_2 : argN mJ7_copyOf_2 3 := by unfold argN; decide +kernel
theorem hJ7_copyOf_2 : notMH (my mJ7_copyOf_2).cls := ⟨by decide +kernel, by decide +kernel⟩
def mJ8_checkIndex : MD := (yJ8_checkIndex, cJ8_checkIndex, 2, some .int, [])
theorem wJ8_checkIndex : mword mJ8_checkIndex ∈ lw_all := by
  show (if ([] : List (Nat × Nat × Nat × Nat)) = [] then _ else _) ∈ lw_all
  rw [if_pos rfl]
  exact q663
theorem kJ8_checkIndex : Cal mJ8_checkIndex := ⟨wJ8_checkIndex, q110, Nat.le_of_ble_eq_true rfl, by decide +kernel⟩
theorem nJ8_checkIndex : argN mJ8_checkIndex 2 := by unfold argN; decide +kernel
theorem hJ8_checkIndex : notMH (my mJ8_checkIndex).cls := ⟨by decide +kernel, by decide +kernel⟩
def mJ9_checkIndex : MD := (yJ9_checkIndex, cJ9_checkIndex, 3, some .int, [])
theorem wJ9_checkIndex : mword mJ9_checkIndex ∈ lw_all := by
  show (if ([] : List (Nat × Nat × Nat × Nat)) = [] then _ else _) ∈ lw_all
  rw [if_pos rfl]
  exact q666
theorem kJ9_checkIndex : Cal mJ9_checkIndex := ⟨wJ9_checkIndex, q111, Nat.le_of_ble_eq_true rfl, by decide +kernel⟩
theorem nJ9_checkIndex : argN mJ9_checkIndex 3 := by unfold argN; decide +kernel
theorem hJ9_checkIndex : notMH (my mJ9_checkIndex).cls := ⟨by decide +kernel, by decide +kernel⟩
def mJ10_bitCount : MD := (yJ10_bitCount, cJ10_bitCount, 1, some .int, [])
theorem wJ10_bitCount : mword mJ10_bitCount ∈ lw_all := by
  show (if ([] : List (Nat × Nat × Nat × Nat)) = [] then _ else _) ∈ lw_all
  rw [if_pos rfl]
  exact q811
theorem kJ10_bitCount : Cal mJ10_bitCount := ⟨wJ10_bitCount, q112, Nat.le_of_ble_eq_true rfl, by decide +kernel⟩
theorem nJ10_bitCount : argN mJ10_bitCount 1 := by unfold argN; decide +kernel
theorem hJ10_bitCount : notMH (my mJ10_bitCount).cls := ⟨by decide +kernel, by decide +kernel⟩
def mJ11_init : MD := (yJ11_init, cJ11_init, 2, none, [])
theorem wJ11_init : mword mJ11_init ∈ lw_all := by
  show (if ([] : List (Nat × Nat × Nat × Nat)) = [] then _ else _) ∈ lw_all
  rw [if_pos rfl]
  exact q1051
theorem kJ11_init : Cal mJ11_init := ⟨wJ11_init, q113, Nat.le_of_ble_eq_true rfl, by decide +kernel⟩
theorem nJ11_init : argN mJ11_init 1 := by unfold argN; decide +kernel
theorem hJ11_init : notMH (my mJ11_init).cls := ⟨by decide +kernel, by decide +kernel⟩
def mJ12_init : MD := (yJ12_init, cJ12_init, 2, none, [])
theorem wJ12_init : mword mJ12_init ∈ lw_all := by
  show (if ([] : List (Nat × Nat × Nat × Nat)) = [] then _ else _) ∈ lw_all
  rw [if_pos rfl]
  exact q1048
theorem kJ12_init : Cal mJ12_init := ⟨wJ12_init, q114, Nat.le_of_ble_eq_true rfl, by decide +kernel⟩
theorem nJ12_init : argN mJ12_init 1 := by unfold argN; decide +kernel
theorem hJ12_init : notMH (my mJ12_init).cls := ⟨by decide +kernel, by decide +kernel⟩
def mJ14_init : MD := (yJ14_init, cJ14_init, 2, none, [])
theorem wJ14_init : mword mJ14_init ∈ lw_all := by
  show (if ([] : List (Nat × Nat × Nat × Nat)) = [] then _ else _) ∈ lw_all
  rw [if_pos rfl]
  exact q1090
theorem kJ14_init : Cal mJ14_init := ⟨wJ14_init, q116, Nat.le_of_ble_eq_true rfl, by decide +kernel⟩
theorem nJ14_init : argN mJ14_init 1 := by unfold argN; decide +kernel
theorem hJ14_init : notMH (my mJ14_init).cls := ⟨by decide +kernel, by decide +kernel⟩
def mJ15_init : MD := (yJ15_init, cJ15_init, 2, none, [])
theorem wJ15_init : mword mJ15_init ∈ lw_all := by
  show (if ([] : List (Nat × Nat × Nat × Nat)) = [] then _ else _) ∈ lw_all
  rw [if_pos rfl]
  exact q1107
theorem kJ15_init : Cal mJ15_init := ⟨wJ15_init, q117, Nat.le_of_ble_eq_true rfl, by decide +kernel⟩
theorem nJ15_init : argN mJ15_init 1 := by unfold argN; decide +kernel
theorem hJ15_init : notMH (my mJ15_init).cls := ⟨by decide +kernel, by decide +kernel⟩
def mJ16_init : MD := (yJ16_init, cJ16_init, 2, none, [])
theorem wJ16_init : mword mJ16_init ∈ lw_all := by
  show (if ([] : List (Nat × Nat × Nat × Nat)) = [] then _ else _) ∈ lw_all
  rw [if_pos rfl]
  exact q1104
theorem kJ16_init : Cal mJ16_init := ⟨wJ16_init, q118, Nat.le_of_ble_eq_true rfl, by decide +kernel⟩
theorem nJ16_init : argN mJ16_init 1 := by unfold argN; decide +kernel
theorem hJ16_init : notMH (my mJ16_init).cls := ⟨by decide +kernel, by decide +kernel⟩
def mL_law : MD := (x, code, 4, some .boolean, [])
