set_option maxRecDepth 100000
theorem dL_law_594 : decode cL_law 594 = .ok (.iload_n 3, 1) := by decide +kernel
theorem dL_law_595 : decode cL_law 595 = .ok (.iconst 2, 1) := by decide +kernel
theorem dL_law_596 : decode cL_law 596 = .ok (.iadd, 1) := by decide +kernel
theorem dL_law_597 : decode cL_law 597 = .ok (.iaload, 1) := by decide +kernel
theorem dL_law_598 : decode cL_law 598 = .ok (.invokevirtual 66, 3) := by decide +kernel
theorem dL_law_601 : decode cL_law 601 = .ok (.if_icmp .eq 435, 3) := by decide +kernel
theorem dL_law_604 : decode cL_law 604 = .ok (.iconst 0, 1) := by decide +kernel
theorem dL_law_605 : decode cL_law 605 = .ok (.ireturn, 1) := by decide +kernel
theorem dL_law_606 : decode cL_law 606 = .ok (.aload_n 1, 1) := by decide +kernel
theorem dL_law_607 : decode cL_law 607 = .ok (.aload_n 0, 1) := by decide +kernel
theorem dL_law_608 : decode cL_law 608 = .ok (.iload_n 3, 1) := by decide +kernel
theorem dL_law_609 : decode cL_law 609 = .ok (.iconst 1, 1) := by decide +kernel
theorem dL_law_610 : decode cL_law 610 = .ok (.iadd, 1) := by decide +kernel
theorem dL_law_611 : decode cL_law 611 = .ok (.iaload, 1) := by decide +kernel
theorem dL_law_612 : decode cL_law 612 = .ok (.invokevirtual 67, 3) := by decide +kernel
theorem dL_law_615 : decode cL_law 615 = .ok (.aload_n 2, 1) := by decide +kernel
theorem dL_law_616 : decode cL_law 616 = .ok (.aload_n 0, 1) := by decide +kernel
theorem dL_law_617 : decode cL_law 617 = .ok (.iload_n 3, 1) := by decide +kernel
theorem dL_law_618 : decode cL_law 618 = .ok (.iconst 1, 1) := by decide +kernel
theorem dL_law_619 : decode cL_law 619 = .ok (.iadd, 1) := by decide +kernel
theorem dL_law_620 : decode cL_law 620 = .ok (.iaload, 1) := by decide +kernel
theorem dL_law_621 : decode cL_law 621 = .ok (.invokevirtual 70, 3) := by decide +kernel
theorem dL_law_624 : decode cL_law 624 = .ok (.if_icmp .eq 412, 3) := by decide +kernel
theorem dL_law_627 : decode cL_law 627 = .ok (.iconst 0, 1) := by decide +kernel
theorem dL_law_628 : decode cL_law 628 = .ok (.ireturn, 1) := by decide +kernel
theorem dL_law_629 : decode cL_law 629 = .ok (.aload_n 1, 1) := by decide +kernel
theorem dL_law_630 : decode cL_law 630 = .ok (.aload_n 0, 1) := by decide +kernel
theorem dL_law_631 : decode cL_law 631 = .ok (.iload_n 3, 1) := by decide +kernel
theorem dL_law_632 : decode cL_law 632 = .ok (.iconst 1, 1) := by decide +kernel
theorem dL_law_633 : decode cL_law 633 = .ok (.iadd, 1) := by decide +kernel
theorem dL_law_634 : decode cL_law 634 = .ok (.iaload, 1) := by decide +kernel
theorem dL_law_635 : decode cL_law 635 = .ok (.aload_n 0, 1) := by decide +kernel
theorem dL_law_636 : decode cL_law 636 = .ok (.iload_n 3, 1) := by decide +kernel
theorem dL_law_637 : decode cL_law 637 = .ok (.iconst 2, 1) := by decide +kernel
theorem dL_law_638 : decode cL_law 638 = .ok (.iadd, 1) := by decide +kernel
theorem dL_law_639 : decode cL_law 639 = .ok (.iaload, 1) := by decide +kernel
theorem dL_law_640 : decode cL_law 640 = .ok (.aload_n 0, 1) := by decide +kernel
theorem dL_law_641 : decode cL_law 641 = .ok (.iload_n 3, 1) := by decide +kernel
theorem dL_law_642 : decode cL_law 642 = .ok (.iconst 3, 1) := by decide +kernel
theorem dL_law_643 : decode cL_law 643 = .ok (.iadd, 1) := by decide +kernel
theorem dL_law_644 : decode cL_law 644 = .ok (.iaload, 1) := by decide +kernel
theorem dL_law_645 : decode cL_law 645 = .ok (.invokevirtual 71, 3) := by decide +kernel
theorem dL_law_648 : decode cL_law 648 = .ok (.aload_n 2, 1) := by decide +kernel
theorem dL_law_649 : decode cL_law 649 = .ok (.aload_n 0, 1) := by decide +kernel
theorem dL_law_650 : decode cL_law 650 = .ok (.iload_n 3, 1) := by decide +kernel
theorem dL_law_651 : decode cL_law 651 = .ok (.iconst 1, 1) := by decide +kernel
theorem dL_law_652 : decode cL_law 652 = .ok (.iadd, 1) := by decide +kernel
theorem dL_law_653 : decode cL_law 653 = .ok (.iaload, 1) := by decide +kernel
theorem dL_law_654 : decode cL_law 654 = .ok (.aload_n 0, 1) := by decide +kernel
theorem dL_law_655 : decode cL_law 655 = .ok (.iload_n 3, 1) := by decide +kernel
theorem dL_law_656 : decode cL_law 656 = .ok (.iconst 2, 1) := by decide +kernel
theorem dL_law_657 : decode cL_law 657 = .ok (.iadd, 1) := by decide +kernel
theorem dL_law_658 : decode cL_law 658 = .ok (.iaload, 1) := by decide +kernel
theorem dL_law_659 : decode cL_law 659 = .ok (.aload_n 0, 1) := by decide +kernel
theorem dL_law_660 : decode cL_law 660 = .ok (.iload_n 3, 1) := by decide +kernel
theorem dL_law_661 : decode cL_law 661 = .ok (.iconst 3, 1) := by decide +kernel
theorem dL_law_662 : decode cL_law 662 = .ok (.iadd, 1) := by decide +kernel
theorem dL_law_663 : decode cL_law 663 = .ok (.iaload, 1) := by decide +kernel
theorem dL_law_664 : decode cL_law 664 = .ok (.invokevirtual 74, 3) := by decide +kernel
theorem dL_law_667 : decode cL_law 667 = .ok (.if_icmp .eq 369, 3) := by decide +kernel
theorem dL_law_670 : decode cL_law 670 = .ok (.iconst 0, 1) := by decide +kernel
theorem dL_law_671 : decode cL_law 671 = .ok (.ireturn, 1) := by decide +kernel
theorem dL_law_672 : decode cL_law 672 = .ok (.aload_n 1, 1) := by decide +kernel
theorem dL_law_673 : decode cL_law 673 = .ok (.aload_n 0, 1) := by decide +kernel
theorem dL_law_674 : decode cL_law 674 = .ok (.iload_n 3, 1) := by decide +kernel
theorem dL_law_675 : decode cL_law 675 = .ok (.iconst 1, 1) := by decide +kernel
theorem dL_law_676 : decode cL_law 676 = .ok (.iadd, 1) := by decide +kernel
theorem dL_law_677 : decode cL_law 677 = .ok (.iaload, 1) := by decide +kernel
theorem dL_law_678 : decode cL_law 678 = .ok (.aload_n 0, 1) := by decide +kernel
theorem dL_law_679 : decode cL_law 679 = .ok (.iload_n 3, 1) := by decide +kernel
theorem dL_law_680 : decode cL_law 680 = .ok (.iconst 2, 1) := by decide +kernel
theorem dL_law_681 : decode cL_law 681 = .ok (.iadd, 1) := by decide +kernel
theorem dL_law_682 : decode cL_law 682 = .ok (.iaload, 1) := by decide +kernel
theorem dL_law_683 : decode cL_law 683 = .ok (.invokevirtual 75, 3) := by decide +kernel
theorem dL_law_686 : decode cL_law 686 = .ok (.aload_n 2, 1) := by decide +kernel
theorem dL_law_687 : decode cL_law 687 = .ok (.aload_n 0, 1) := by decide +kernel
theorem dL_law_688 : decode cL_law 688 = .ok (.iload_n 3, 1) := by decide +kernel
theorem dL_law_689 : decode cL_law 689 = .ok (.iconst 1, 1) := by decide +kernel
theorem dL_law_690 : decode cL_law 690 = .ok (.iadd, 1) := by decide +kernel
theorem dL_law_691 : decode cL_law 691 = .ok (.iaload, 1) := by decide +kernel
theorem dL_law_692 : decode cL_law 692 = .ok (.aload_n 0, 1) := by decide +kernel
theorem dL_law_693 : decode cL_law 693 = .ok (.iload_n 3, 1) := by decide +kernel
theorem dL_law_694 : decode cL_law 694 = .ok (.iconst 2, 1) := by decide +kernel
theorem dL_law_695 : decode cL_law 695 = .ok (.iadd, 1) := by decide +kernel
theorem dL_law_696 : decode cL_law 696 = .ok (.iaload, 1) := by decide +kernel
theorem dL_law_697 : decode cL_law 697 = .ok (.invokevirtual 78, 3) := by decide +kernel
theorem dL_law_700 : decode cL_law 700 = .ok (.if_icmp .eq 336, 3) := by decide +kernel
theorem dL_law_703 : decode cL_law 703 = .ok (.iconst 0, 1) := by decide +kernel
theorem dL_law_704 : decode cL_law 704 = .ok (.ireturn, 1) := by decide +kernel
theorem dL_law_705 : decode cL_law 705 = .ok (.aload_n 1, 1) := by decide +kernel
theorem dL_law_706 : decode cL_law 706 = .ok (.aload_n 0, 1) := by decide +kernel
theorem dL_law_707 : decode cL_law 707 = .ok (.iload_n 3, 1) := by decide +kernel
theorem dL_law_708 : decode cL_law 708 = .ok (.iconst 1, 1) := by decide +kernel
theorem dL_law_709 : decode cL_law 709 = .ok (.iadd, 1) := by decide +kernel
theorem dL_law_710 : decode cL_law 710 = .ok (.iaload, 1) := by decide +kernel
theorem dL_law_711 : decode cL_law 711 = .ok (.aload_n 0, 1) := by decide +kernel
theorem dL_law_712 : decode cL_law 712 = .ok (.iload_n 3, 1) := by decide +kernel
theorem dL_law_713 : decode cL_law 713 = .ok (.iconst 2, 1) := by decide +kernel
theorem dL_law_714 : decode cL_law 714 = .ok (.iadd, 1) := by decide +kernel
theorem dL_law_715 : decode cL_law 715 = .ok (.iaload, 1) := by decide +kernel
theorem dL_law_716 : decode cL_law 716 = .ok (.aload_n 0, 1) := by decide +kernel
theorem dL_law_717 : decode cL_law 717 = .ok (.iload_n 3, 1) := by decide +kernel
theorem dL_law_718 : decode cL_law 718 = .ok (.iconst 3, 1) := by decide +kernel
theorem dL_law_719 : decode cL_law 719 = .ok (.iadd, 1) := by decide +kernel
theorem dL_law_720 : decode cL_law 720 = .ok (.iaload, 1) := by decide +kernel
theorem dL_law_721 : decode cL_law 721 = .ok (.invokevirtual 79, 3) := by decide +kernel
theorem dL_law_724 : decode cL_law 724 = .ok (.aload_n 2, 1) := by decide +kernel
theorem dL_law_725 : decode cL_law 725 = .ok (.aload_n 0, 1) := by decide +kernel
theorem dL_law_726 : decode cL_law 726 = .ok (.iload_n 3, 1) := by decide +kernel
theorem dL_law_727 : decode cL_law 727 = .ok (.iconst 1, 1) := by decide +kernel
theorem dL_law_728 : decode cL_law 728 = .ok (.iadd, 1) := by decide +kernel
theorem dL_law_729 : decode cL_law 729 = .ok (.iaload, 1) := by decide +kernel
theorem dL_law_730 : decode cL_law 730 = .ok (.aload_n 0, 1) := by decide +kernel
theorem dL_law_731 : decode cL_law 731 = .ok (.iload_n 3, 1) := by decide +kernel
theorem dL_law_732 : decode cL_law 732 = .ok (.iconst 2, 1) := by decide +kernel
theorem dL_law_733 : decode cL_law 733 = .ok (.iadd, 1) := by decide +kernel
theorem dL_law_734 : decode cL_law 734 = .ok (.iaload, 1) := by decide +kernel
theorem dL_law_735 : decode cL_law 735 = .ok (.aload_n 0, 1) := by decide +kernel
theorem dL_law_736 : decode cL_law 736 = .ok (.iload_n 3, 1) := by decide +kernel
theorem dL_law_737 : decode cL_law 737 = .ok (.iconst 3, 1) := by decide +kernel
theorem dL_law_738 : decode cL_law 738 = .ok (.iadd, 1) := by decide +kernel
theorem dL_law_739 : decode cL_law 739 = .ok (.iaload, 1) := by decide +kernel
theorem dL_law_740 : decode cL_law 740 = .ok (.invokevirtual 82, 3) := by decide +kernel
theorem dL_law_743 : decode cL_law 743 = .ok (.if_icmp .eq 293, 3) := by decide +kernel
theorem dL_law_746 : decode cL_law 746 = .ok (.iconst 0, 1) := by decide +kernel
theorem dL_law_747 : decode cL_law 747 = .ok (.ireturn, 1) := by decide +kernel
theorem dL_law_748 : decode cL_law 748 = .ok (.aload_n 1, 1) := by decide +kernel
theorem dL_law_749 : decode cL_law 749 = .ok (.aload_n 0, 1) := by decide +kernel
theorem dL_law_750 : decode cL_law 750 = .ok (.iload_n 3, 1) := by decide +kernel
theorem dL_law_751 : decode cL_law 751 = .ok (.iconst 1, 1) := by decide +kernel
theorem dL_law_752 : decode cL_law 752 = .ok (.iadd, 1) := by decide +kernel
theorem dL_law_753 : decode cL_law 753 = .ok (.iaload, 1) := by decide +kernel
theorem dL_law_754 : decode cL_law 754 = .ok (.aload_n 0, 1) := by decide +kernel
theorem dL_law_755 : decode cL_law 755 = .ok (.iload_n 3, 1) := by decide +kernel
theorem dL_law_756 : decode cL_law 756 = .ok (.iconst 2, 1) := by decide +kernel
theorem dL_law_757 : decode cL_law 757 = .ok (.iadd, 1) := by decide +kernel
theorem dL_law_758 : decode cL_law 758 = .ok (.iaload, 1) := by decide +kernel
theorem dL_law_759 : decode cL_law 759 = .ok (.aload_n 0, 1) := by decide +kernel
theorem dL_law_760 : decode cL_law 760 = .ok (.iload_n 3, 1) := by decide +kernel
theorem dL_law_761 : decode cL_law 761 = .ok (.iconst 3, 1) := by decide +kernel
theorem dL_law_762 : decode cL_law 762 = .ok (.iadd, 1) := by decide +kernel
theorem dL_law_763 : decode cL_law 763 = .ok (.iaload, 1) := by decide +kernel
theorem dL_law_764 : decode cL_law 764 = .ok (.aload_n 0, 1) := by decide +kernel
theorem dL_law_765 : decode cL_law 765 = .ok (.iload_n 3, 1) := by decide +kernel
theorem dL_law_766 : decode cL_law 766 = .ok (.iconst 4, 1) := by decide +kernel
theorem dL_law_767 : decode cL_law 767 = .ok (.iadd, 1) := by decide +kernel
theorem dL_law_768 : decode cL_law 768 = .ok (.iaload, 1) := by decide +kernel
theorem dL_law_769 : decode cL_law 769 = .ok (.aload_n 0, 1) := by decide +kernel
theorem dL_law_770 : decode cL_law 770 = .ok (.iload_n 3, 1) := by decide +kernel
theorem dL_law_771 : decode cL_law 771 = .ok (.iconst 5, 1) := by decide +kernel
theorem dL_law_772 : decode cL_law 772 = .ok (.iadd, 1) := by decide +kernel
theorem dL_law_773 : decode cL_law 773 = .ok (.iaload, 1) := by decide +kernel
theorem dL_law_774 : decode cL_law 774 = .ok (.invokevirtual 83, 3) := by decide +kernel
theorem dL_law_777 : decode cL_law 777 = .ok (.aload_n 2, 1) := by decide +kernel
theorem dL_law_778 : decode cL_law 778 = .ok (.aload_n 0, 1) := by decide +kernel
theorem dL_law_779 : decode cL_law 779 = .ok (.iload_n 3, 1) := by decide +kernel
theorem dL_law_780 : decode cL_law 780 = .ok (.iconst 1, 1) := by decide +kernel
theorem dL_law_781 : decode cL_law 781 = .ok (.iadd, 1) := by decide +kernel
theorem dL_law_782 : decode cL_law 782 = .ok (.iaload, 1) := by decide +kernel
theorem dL_law_783 : decode cL_law 783 = .ok (.aload_n 0, 1) := by decide +kernel
theorem dL_law_784 : decode cL_law 784 = .ok (.iload_n 3, 1) := by decide +kernel
theorem dL_law_785 : decode cL_law 785 = .ok (.iconst 2, 1) := by decide +kernel
theorem dL_law_786 : decode cL_law 786 = .ok (.iadd, 1) := by decide +kernel
theorem dL_law_787 : decode cL_law 787 = .ok (.iaload, 1) := by decide +kernel
theorem dL_law_788 : decode cL_law 788 = .ok (.aload_n 0, 1) := by decide +kernel
theorem dL_law_789 : decode cL_law 789 = .ok (.iload_n 3, 1) := by decide +kernel
theorem dL_law_790 : decode cL_law 790 = .ok (.iconst 3, 1) := by decide +kernel
theorem dL_law_791 : decode cL_law 791 = .ok (.iadd, 1) := by decide +kernel
theorem dL_law_792 : decode cL_law 792 = .ok (.iaload, 1) := by decide +kernel
theorem dL_law_793 : decode cL_law 793 = .ok (.aload_n 0, 1) := by decide +kernel
theorem dL_law_794 : decode cL_law 794 = .ok (.iload_n 3, 1) := by decide +kernel
theorem dL_law_795 : decode cL_law 795 = .ok (.iconst 4, 1) := by decide +kernel
theorem dL_law_796 : decode cL_law 796 = .ok (.iadd, 1) := by decide +kernel
theorem dL_law_797 : decode cL_law 797 = .ok (.iaload, 1) := by decide +kernel
theorem dL_law_798 : decode cL_law 798 = .ok (.aload_n 0, 1) := by decide +kernel
theorem dL_law_799 : decode cL_law 799 = .ok (.iload_n 3, 1) := by decide +kernel
theorem dL_law_800 : decode cL_law 800 = .ok (.iconst 5, 1) := by decide +kernel
theorem dL_law_801 : decode cL_law 801 = .ok (.iadd, 1) := by decide +kernel
theorem dL_law_802 : decode cL_law 802 = .ok (.iaload, 1) := by decide +kernel
theorem dL_law_803 : decode cL_law 803 = .ok (.invokevirtual 87, 3) := by decide +kernel
theorem dL_law_806 : decode cL_law 806 = .ok (.if_icmp .eq 230, 3) := by decide +kernel
theorem dL_law_809 : decode cL_law 809 = .ok (.iconst 0, 1) := by decide +kernel
theorem dL_law_810 : decode cL_law 810 = .ok (.ireturn, 1) := by decide +kernel
theorem dL_law_811 : decode cL_law 811 = .ok (.aload_n 1, 1) := by decide +kernel
theorem dL_law_812 : decode cL_law 812 = .ok (.aload_n 0, 1) := by decide +kernel
theorem dL_law_813 : decode cL_law 813 = .ok (.iload_n 3, 1) := by decide +kernel
theorem dL_law_814 : decode cL_law 814 = .ok (.iconst 1, 1) := by decide +kernel
theorem dL_law_815 : decode cL_law 815 = .ok (.iadd, 1) := by decide +kernel
theorem dL_law_816 : decode cL_law 816 = .ok (.iaload, 1) := by decide +kernel
theorem dL_law_817 : decode cL_law 817 = .ok (.invokevirtual 88, 3) := by decide +kernel
theorem dL_law_820 : decode cL_law 820 = .ok (.aload_n 2, 1) := by decide +kernel
theorem dL_law_821 : decode cL_law 821 = .ok (.aload_n 0, 1) := by decide +kernel
theorem dL_law_822 : decode cL_law 822 = .ok (.iload_n 3, 1) := by decide +kernel
theorem dL_law_823 : decode cL_law 823 = .ok (.iconst 1, 1) := by decide +kernel
theorem dL_law_824 : decode cL_law 824 = .ok (.iadd, 1) := by decide +kernel
theorem dL_law_825 : decode cL_law 825 = .ok (.iaload, 1) := by decide +kernel
theorem dL_law_826 : decode cL_law 826 = .ok (.invokevirtual 91, 3) := by decide +kernel
theorem dL_law_829 : decode cL_law 829 = .ok (.if_icmp .eq 207, 3) := by decide +kernel
theorem dL_law_832 : decode cL_law 832 = .ok (.iconst 0, 1) := by decide +kernel
theorem dL_law_833 : decode cL_law 833 = .ok (.ireturn, 1) := by decide +kernel
